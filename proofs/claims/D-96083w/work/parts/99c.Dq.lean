theorem c0_set (l : Launch) (E : En) (ad : Nat → Nat) (iv : Nat → Int32) (ch : Nat → Int32) (rd : Nat → Int32) (tp : Nat → Int32) (rf : Nat → Int32) (nw : Nat) (tr : Nat) (gr : Nat) (dy : Nat) (im : Option Nat) (aqI : Nat → Nat) (shI : Nat → Int32) (soI : Nat → Int32) (szI : Nat → Int32) (kmI : Nat → Int32) (bmI : Nat → Int32) (RI : Nat → Nat → Int64) (x i : Int32) (v : Int64) (hlt : l.stackTraces = false) (hsh : ∀ P, P < 8 → shI P = 0 ∨ shI P = 1 ∨ shI P = 2) (hso : ∀ P, P < 8 → ∃ k, k ≤ 4 ∧ soI P = nI k) (hsz : ∀ P, P < 8 → ∃ k, k ≤ 40 ∧ szI P = nI k) (hkm : ∀ P, P < 8 → shI P = 2 → ∃ k, 1 ≤ k ∧ k ≤ 5 ∧ kmI P = nI k) (hbm : ∀ P, P < 8 → ∃ k, k < 100 ∧ bmI P = nI k) : XtI l E yX0_set (wsW_ yX0_set cX0_set 6 (some FieldType.int) [(14, 25, 26, 111), (14, 25, 38, 126)]) 107 4 229 [.ref (ad 11), .int x, .int i, .long v] (xW E ad iv ch rd tp rf (hdI shI aqI) nw tr gr dy im ++ (itsW (itF E aqI shI soI szI kmI bmI RI))) (fun (r : Int32) (u : Unit) => r = gd (setC shI szI x i) 1 (setC shI szI x i)) (fun (u : Unit) => xW E ad iv ch rd tp (bumpR rf (setC shI szI x i)) (hdI shI aqI) nw tr gr dy im ++ (itsW (itF E aqI shI soI szI kmI bmI (gd (setC shI szI x i) (va_up RI x.toNatClampNeg (va_up (RI x.toNatClampNeg) i.toNatClampNeg (fitV (soI x.toNatClampNeg) v))) RI)))) (fun (_ : String) (_ : Unit) => False) (fun (_ : Unit) (_ : Nat) => []) := by
  refine XtI.ofH (by decide +kernel) (Nat.le_of_ble_eq_true rfl) ?_
  intro pR eR sR mR aR bR tR cR AR ls QR hxR hbR hmlR hts hown hlk hnm hA hK hI hl htab hret hthr
  have hl : lv_has ls 6 [(0, .ref (ad 11)), (1, .int x), (2, .int i), (3, .long v)] := hl
  refine lv_iload_n hxR hbR dX0_set_0 rfl (lv_at hl 1 rfl) ?_
  refine kSI (n := 1) (As := [.int x]) (rest := []) (fun w => w ++ (xW E ad iv ch rd tp rf (hdI shI aqI) nw tr gr dy im ++ (itsW (itF E aqI shI soI szI kmI bmI RI)))) hxR hbR hmlR hts hown hK hA hl.1 (isCtx.suf _) hI (c0_isShelf l E  x ) (lw_S q390 q391 q81 q392) (by decide +kernel) rfl (Nat.le_of_ble_eq_true rfl) (Nat.le_of_ble_eq_true rfl) ⟨Nat.le_of_ble_eq_true rfl, Nat.le_of_ble_eq_true rfl⟩ (Nat.le_of_ble_eq_true rfl) dX0_set_1 (fun r_1 u H locs hp hI hz => ?_)
  have hI : wI E AR sR H locs (xW E ad iv ch rd tp rf (hdI shI aqI) nw tr gr dy im ++ (itsW (itF E aqI shI soI szI kmI bmI RI))) := hI
  have hp : r_1 = b2i (decide (0 ≤ x.toInt ∧ x.toInt ≤ 7)) := hp
  have hr_1 := hp
  rcases b2i_cases hr_1 with ⟨c_1, rfl⟩ | ⟨c_1, rfl⟩
  · skip
    have c_1 : 0 ≤ Int32.toInt x ∧ Int32.toInt x ≤ 7 := of_decide_eq_true c_1
    obtain ⟨P, hP, rfl⟩ := nat7 c_1
    have tP : (nI P).toInt = (P : Int) := nI_toInt (by omega)
    refine lv_if_ne (tgt := 14) hxR hbR dX0_set_4 (by decide) (fun _ => ?_) (fun c => absurd c (by decide))
    refine lv_aload_n hxR hbR dX0_set_14 rfl (lv_at hl 0 rfl) ?_
    refine lv_iload_n hxR hbR dX0_set_15 rfl (lv_at hl 1 rfl) ?_
    refine kVRX (n := 1) (As := [.int (nI P)]) (rest := []) (fun w => w) hxR hbR hmlR hts hown hK hA hl.1 isCtx.id hI (c0_rowIn l E ad iv ch rd tp rf nw tr gr dy im aqI shI soI szI kmI bmI RI P hlt hP (by first | omega | with_reducible assumption) (by first | omega | with_reducible assumption) (by first | omega | with_reducible assumption) (by first | omega | with_reducible assumption) (by first | omega | with_reducible assumption)) (lw_V q430 q432 qs3 q81 q433) ⟨rfl, by decide +kernel⟩ 8 0 rfl rfl (he_l xW_o) rfl (Nat.le_of_ble_eq_true rfl) (Nat.le_of_ble_eq_true rfl) ⟨by omega, by omega⟩ (Nat.le_of_ble_eq_true rfl) dX0_set_16 (fun En ce_16 q_16 u H locs hX hI hz hq1 hq2 hq3 => ?_) (fun r_16 u H locs hp hI hz => ?_)
    · skip
      have hI : wI E AR sR H locs (xW E ad iv ch rd tp rf (hdI shI aqI) nw tr gr dy im ++ (itsW (itF E aqI shI soI szI kmI bmI RI) ++ ([(q_16, .inr (6, [.null, .null, .null, .null, .null, .int 0, .int (noRowV shI (nI P))]))]))) := hI
      have hI : wI E AR sR _ _ (xW E ad iv ch rd tp rf (hdI shI aqI) nw tr gr dy im ++ ([(q_16, .inr (6, [.null, .null, .null, .null, .null, .int 0, .int (noRowV shI (nI P))]))] ++ (itsW (itF E aqI shI soI szI kmI bmI RI)))) := wI_pick ([xW E ad iv ch rd tp rf (hdI shI aqI) nw tr gr dy im, itsW (itF E aqI shI soI szI kmI bmI RI), [(q_16, .inr (6, [.null, .null, .null, .null, .null, .int 0, .int (noRowV shI (nI P))]))]]) [0, 2, 1] 3 rfl (by decide) hI
      have hX : En = "ThreeStrangers$Refused" ∧ ¬ noRowV shI (nI P) = 0 := hX
      obtain ⟨rfl, hy9_16⟩ := hX
      refine r_catch 0 _ hown hts hK.xw htab rfl (fun z hz => absurd hz List.not_mem_nil) (by decide) (by decide) q410 q436 hq1 hq2 hq3 ?_
      refine W.eq (g2 := F0 mR 26 ls [.ref q_16]) rfl ?_
      refine lv_astore (lv' := [(5, .ref q_16), (0, .ref (ad 11)), (1, .int (nI P)), (2, .int i), (3, .long v)]) hxR hbR dX0_set_26 hl (by decide) rfl (fun ls hl => ?_)
      refine lv_aload_n hxR hbR dX0_set_28 rfl (lv_at hl 1 rfl) ?_
      refine lv_aload hxR hbR dX0_set_29 (lv_at hl 0 rfl) ?_
      refine r_get hxR hbR hts hown hK hI okX6 (ci := 6) rfl (14 + 0) (he_r (Nat.le_of_ble_eq_true rfl) (Nat.le_of_ble_eq_true rfl) (he_l rfl)) 6 (by decide) q456 rfl (v := .int (noRowV shI (nI P))) rfl dX0_set_31 ?_
      refine kVI (n := 1) (As := [.int (noRowV shI (nI P))]) (rest := []) (fun w => w ++ ([(q_16, .inr (6, [.null, .null, .null, .null, .null, .int 0, .int (noRowV shI (nI P))]))] ++ (itsW (itF E aqI shI soI szI kmI bmI RI)))) hxR hbR hmlR hts hown hK hA hl.1 (isCtx.suf _) hI (c0_noV l E ad iv ch rd tp rf (hdI shI aqI) nw tr gr dy im (noRowV shI (nI P)) (r5 (norow_r hy9_16))) (lw_V q396 q398 qs2 q81 q399) ⟨rfl, by decide +kernel⟩ 8 0 rfl rfl xW_o rfl (Nat.le_of_ble_eq_true rfl) (Nat.le_of_ble_eq_true rfl) ⟨Nat.le_of_ble_eq_true rfl, Nat.le_of_ble_eq_true rfl⟩ (Nat.le_of_ble_eq_true rfl) dX0_set_34 (fun r_34 u H locs hp hI hz => ?_)
      have hI : wI E AR sR H locs (xW E ad iv ch rd tp (bumpR rf (noRowV shI (nI P))) (hdI shI aqI) nw tr gr dy im ++ ([(q_16, .inr (6, [.null, .null, .null, .null, .null, .int 0, .int (noRowV shI (nI P))]))] ++ (itsW (itF E aqI shI soI szI kmI bmI RI)))) := hI
      have hp : r_34 = (noRowV shI (nI P)) := hp
      have hr_34 := hp
      subst hr_34
      have hI : wI E AR sR _ _ ([(q_16, .inr (6, [.null, .null, .null, .null, .null, .int 0, .int (noRowV shI (nI P))]))] ++ (xW E ad iv ch rd tp (bumpR rf (noRowV shI (nI P))) (hdI shI aqI) nw tr gr dy im ++ (itsW (itF E aqI shI soI szI kmI bmI RI)))) := wI_pick ([xW E ad iv ch rd tp (bumpR rf (noRowV shI (nI P))) (hdI shI aqI) nw tr gr dy im, [(q_16, .inr (6, [.null, .null, .null, .null, .null, .int 0, .int (noRowV shI (nI P))]))], itsW (itF E aqI shI soI szI kmI bmI RI)]) [1, 0, 2] 3 rfl (by decide) hI
      have hI := wI_dropL hI
      have hC : setC shI szI (nI P) i = noRowV shI (nI P) := by
        clear hret hI
        unfold setC; exact if_neg hy9_16
      have erf : bumpR rf (setC shI szI (nI P) i) = bumpR rf (noRowV shI (nI P)) := by rw [hC]
      have eRI : gd (setC shI szI (nI P) i) (va_up RI (nI P).toNatClampNeg (va_up (RI (nI P).toNatClampNeg) i.toNatClampNeg (fitV (soI (nI P).toNatClampNeg) v))) RI = RI := by rw [hC]; first | exact gd_n hy9_16 | (rw [gd_n hy9_16])
      have hI := wI_w (ws' := xW E ad iv ch rd tp (bumpR rf (setC shI szI (nI P) i)) (hdI shI aqI) nw tr gr dy im ++ (itsW (itF E aqI shI soI szI kmI bmI (gd (setC shI szI (nI P) i) (va_up RI (nI P).toNatClampNeg (va_up (RI (nI P).toNatClampNeg) i.toNatClampNeg (fitV (soI (nI P).toNatClampNeg) v))) RI)))) (by rw [erf, eRI]; try rfl) hI
      exact hret () (noRowV shI (nI P)) _ _ (0 + 1) (0 + 7) _ _ dX0_set_37 hI (by show (noRowV shI (nI P)) = gd (setC shI szI (nI P) i) 1 (setC shI szI (nI P) i); rw [hC]; exact (gd_n hy9_16).symm) (Nat.le_of_ble_eq_true rfl) (Nat.le_of_ble_eq_true rfl) rfl
    · skip
      have hI : wI E AR sR H locs (xW E ad iv ch rd tp rf (hdI shI aqI) nw tr gr dy im ++ (itsW (itF E aqI shI soI szI kmI bmI RI))) := hI
      have hp : r_16 = aqI P ∧ shI P = 1 := hp
      obtain ⟨rfl, hrow_16⟩ := hp
      have c_h := hrow_16
      have hI : wI E AR sR _ _ (itsW (itF E aqI shI soI szI kmI bmI RI) ++ (xW E ad iv ch rd tp rf (hdI shI aqI) nw tr gr dy im)) := wI_pick ([xW E ad iv ch rd tp rf (hdI shI aqI) nw tr gr dy im, itsW (itF E aqI shI soI szI kmI bmI RI)]) [1, 0] 2 rfl (by decide) hI
      obtain ⟨zo, hzo, hzo9⟩ := hso P hP
      obtain ⟨zn, hzn, hzn9⟩ := hsz P hP
      have hI := its_out (f := itF E aqI shI soI szI kmI bmI RI) hP (itF_row c_h hzo9 hzn9 (by omega) (by omega)) hI
      have hI : wI E AR sR _ _ (rowW E (aqI P) zo zn (RI P) ++ (itsX (itF E aqI shI soI szI kmI bmI RI) P ++ (xW E ad iv ch rd tp rf (hdI shI aqI) nw tr gr dy im))) := hI
      have hI : wI E AR sR _ _ (xW E ad iv ch rd tp rf (hdI shI aqI) nw tr gr dy im ++ (rowW E (aqI P) zo zn (RI P) ++ (itsX (itF E aqI shI soI szI kmI bmI RI) P))) := wI_pick ([rowW E (aqI P) zo zn (RI P), itsX (itF E aqI shI soI szI kmI bmI RI) P, xW E ad iv ch rd tp rf (hdI shI aqI) nw tr gr dy im]) [2, 0, 1] 3 rfl (by decide) hI
      refine lv_iload_n hxR hbR dX0_set_19 rfl (lv_at hl 2 rfl) ?_
      refine lv_lload_n hxR hbR dX0_set_20 rfl (lv_at hl 3 rfl) ?_
      refine kSVX (n := 3) (As := [.ref (aqI P), .int i, .long v]) (rest := []) (fun w => (xW E ad iv ch rd tp rf (hdI shI aqI) nw tr gr dy im) ++ (w ++ (itsX (itF E aqI shI soI szI kmI bmI RI) P))) hxR hbR hmlR hts hown hK hA hl.1 (isCtx.mk _ _) hI (c0_puts l E (aqI P) zo zn (RI P) i v hlt hzo hzn) (lw_S q461 q462 q81 q463) (by decide +kernel) rfl (Nat.le_of_ble_eq_true rfl) (Nat.le_of_ble_eq_true rfl) ⟨by omega, by omega⟩ (Nat.le_of_ble_eq_true rfl) dX0_set_21 (fun En ce_21 q_21 u H locs hX hI hz hq1 hq2 hq3 => ?_) (fun u H locs hp hI hz => ?_)
      · skip
        have hI : wI E AR sR H locs (xW E ad iv ch rd tp rf (hdI shI aqI) nw tr gr dy im ++ (rowW E (aqI P) zo zn (RI P) ++ (itsX (itF E aqI shI soI szI kmI bmI RI) P))) := hI
        have hX : En = "java/lang/ArrayIndexOutOfBoundsException" ∧ ¬ vp_in i zn := hX
        obtain ⟨rfl, hout_21⟩ := hX
        refine r_catch 1 _ hown hts hK.xw htab rfl (List.forall_mem_cons.mpr ⟨Or.inr ⟨by decide, "ThreeStrangers$Refused", hts _ q410, iA.no (a := "java/lang/ArrayIndexOutOfBoundsException") (b := "ThreeStrangers$Refused") hK.xw (by decide +kernel)⟩, (fun z hz => absurd hz List.not_mem_nil)⟩) (by decide) (by decide) q411 q426 hq1 hq2 hq3 ?_
        refine W.eq (g2 := F0 mR 38 ls [.ref q_21]) rfl ?_
        have hI : wI E AR sR _ _ (rowW E (aqI P) zo zn (RI P) ++ (itsX (itF E aqI shI soI szI kmI bmI RI) P ++ (xW E ad iv ch rd tp rf (hdI shI aqI) nw tr gr dy im))) := wI_pick ([xW E ad iv ch rd tp rf (hdI shI aqI) nw tr gr dy im, rowW E (aqI P) zo zn (RI P), itsX (itF E aqI shI soI szI kmI bmI RI) P]) [1, 2, 0] 3 rfl (by decide) hI
        have hI := its_in (f := itF E aqI shI soI szI kmI bmI RI) (g := itF E aqI shI soI szI kmI bmI RI) hP (fun _ _ => rfl) (itF_row c_h hzo9 hzn9 (by omega) (by omega)) hI
        have hI : wI E AR sR _ _ (itsW (itF E aqI shI soI szI kmI bmI RI) ++ (xW E ad iv ch rd tp rf (hdI shI aqI) nw tr gr dy im)) := hI
        have hI : wI E AR sR _ _ (xW E ad iv ch rd tp rf (hdI shI aqI) nw tr gr dy im ++ (itsW (itF E aqI shI soI szI kmI bmI RI))) := wI_pick ([itsW (itF E aqI shI soI szI kmI bmI RI), xW E ad iv ch rd tp rf (hdI shI aqI) nw tr gr dy im]) [1, 0] 2 rfl (by decide) hI
        refine lv_astore (lv' := [(5, .ref q_21), (0, .ref (ad 11)), (1, .int (nI P)), (2, .int i), (3, .long v)]) hxR hbR dX0_set_38 hl (by decide) rfl (fun ls hl => ?_)
        refine lv_aload_n hxR hbR dX0_set_40 rfl (lv_at hl 1 rfl) ?_
        refine lv_bipush (v := (-2)) hxR hbR dX0_set_41 (by decide) ?_
        refine kVI (n := 1) (As := [.int (-2)]) (rest := []) (fun w => w ++ (itsW (itF E aqI shI soI szI kmI bmI RI))) hxR hbR hmlR hts hown hK hA hl.1 (isCtx.suf _) hI (c0_no l E ad iv ch rd tp rf (hdI shI aqI) nw tr gr dy im (-2) 2 (by decide) (by decide)) (lw_V q396 q398 qs2 q81 q399) ⟨rfl, by decide +kernel⟩ 8 0 rfl rfl xW_o rfl (Nat.le_of_ble_eq_true rfl) (Nat.le_of_ble_eq_true rfl) ⟨Nat.le_of_ble_eq_true rfl, Nat.le_of_ble_eq_true rfl⟩ (Nat.le_of_ble_eq_true rfl) dX0_set_43 (fun r_43 u H locs hp hI hz => ?_)
        have hI : wI E AR sR H locs (xW E ad iv ch rd tp (va_up rf 2 (rf 2 + 1)) (hdI shI aqI) nw tr gr dy im ++ (itsW (itF E aqI shI soI szI kmI bmI RI))) := hI
        have hp : r_43 = (-2) := hp
        have hr_43 := hp
        subst hr_43
        have hC : setC shI szI (nI P) i = (-2) := by
          clear hret hI
          rw [setC, if_pos (norow_1 hP c_h), nI_clamp (n := P) (by omega), hzn9, nI_clamp (n := zn) (by omega)]; exact if_neg (fun z => hout_21 ((vpin_i (by omega)).mpr z))
        have erf : bumpR rf (setC shI szI (nI P) i) = va_up rf 2 (rf 2 + 1) := by rw [hC]; exact bump_2 _
        have eRI : gd (setC shI szI (nI P) i) (va_up RI (nI P).toNatClampNeg (va_up (RI (nI P).toNatClampNeg) i.toNatClampNeg (fitV (soI (nI P).toNatClampNeg) v))) RI = RI := by rw [hC]; first | rfl | (simp only [nI_clamp (n := P) (by omega)]; rfl) | (simp only [gd_0, nI_clamp (n := P) (by omega)]; split <;> first | rfl | contradiction) | (exfalso; omega)
        have hI := wI_w (ws' := xW E ad iv ch rd tp (bumpR rf (setC shI szI (nI P) i)) (hdI shI aqI) nw tr gr dy im ++ (itsW (itF E aqI shI soI szI kmI bmI (gd (setC shI szI (nI P) i) (va_up RI (nI P).toNatClampNeg (va_up (RI (nI P).toNatClampNeg) i.toNatClampNeg (fitV (soI (nI P).toNatClampNeg) v))) RI)))) (by rw [erf, eRI]; try rfl) hI
        exact hret () (-2) _ _ (0 + 1 + 3) (0 + 7 + 222) _ _ dX0_set_46 hI (by show (-2) = gd (setC shI szI (nI P) i) 1 (setC shI szI (nI P) i); rw [hC]; first | rfl | (simp only [nI_clamp (n := P) (by omega)]; rfl) | (simp only [gd_0, nI_clamp (n := P) (by omega)]; split <;> first | rfl | contradiction)) (Nat.le_of_ble_eq_true rfl) (Nat.le_of_ble_eq_true rfl) rfl
      · skip
        have hI : wI E AR sR H locs (xW E ad iv ch rd tp rf (hdI shI aqI) nw tr gr dy im ++ (rowW E (aqI P) zo zn (va_up (RI P) i.toNatClampNeg (fitV (nI zo) v)) ++ (itsX (itF E aqI shI soI szI kmI bmI RI) P))) := hI
        have hp : vp_in i zn := hp
        have hin_21 := hp
        have hI : wI E AR sR _ _ (rowW E (aqI P) zo zn (va_up (RI P) i.toNatClampNeg (fitV (nI zo) v)) ++ (itsX (itF E aqI shI soI szI kmI bmI RI) P ++ (xW E ad iv ch rd tp rf (hdI shI aqI) nw tr gr dy im))) := wI_pick ([xW E ad iv ch rd tp rf (hdI shI aqI) nw tr gr dy im, rowW E (aqI P) zo zn (va_up (RI P) i.toNatClampNeg (fitV (nI zo) v)), itsX (itF E aqI shI soI szI kmI bmI RI) P]) [1, 2, 0] 3 rfl (by decide) hI
        have hI := its_in (f := itF E aqI shI soI szI kmI bmI RI) (g := itF E aqI shI soI szI kmI bmI (va_up RI P (va_up (RI P) i.toNatClampNeg (fitV (nI zo) v)))) hP (fun j hj => by simp only [itF, va_up_n hj]) ((itF_row c_h hzo9 hzn9 (by omega) (by omega)).trans (by rw [va_up_s])) hI
        have hI : wI E AR sR _ _ (itsW (itF E aqI shI soI szI kmI bmI (va_up RI P (va_up (RI P) i.toNatClampNeg (fitV (nI zo) v)))) ++ (xW E ad iv ch rd tp rf (hdI shI aqI) nw tr gr dy im)) := hI
        have hI : wI E AR sR _ _ (xW E ad iv ch rd tp rf (hdI shI aqI) nw tr gr dy im ++ (itsW (itF E aqI shI soI szI kmI bmI (va_up RI P (va_up (RI P) i.toNatClampNeg (fitV (nI zo) v)))))) := wI_pick ([itsW (itF E aqI shI soI szI kmI bmI (va_up RI P (va_up (RI P) i.toNatClampNeg (fitV (nI zo) v)))), xW E ad iv ch rd tp rf (hdI shI aqI) nw tr gr dy im]) [1, 0] 2 rfl (by decide) hI
        refine lv_iconst (v := 1) hxR hbR dX0_set_24 (by decide) ?_
        have hC : setC shI szI (nI P) i = 0 := by
          clear hret hI
          rw [setC, if_pos (norow_1 hP c_h), nI_clamp (n := P) (by omega), hzn9, nI_clamp (n := zn) (by omega)]; exact if_pos ((vpin_i (by omega)).mp hin_21)
        have erf : bumpR rf (setC shI szI (nI P) i) = rf := by rw [hC]; exact bump_0 _
        have eRI : gd (setC shI szI (nI P) i) (va_up RI (nI P).toNatClampNeg (va_up (RI (nI P).toNatClampNeg) i.toNatClampNeg (fitV (soI (nI P).toNatClampNeg) v))) RI = va_up RI P (va_up (RI P) i.toNatClampNeg (fitV (nI zo) v)) := by rw [hC, gd_0]; simp only [nI_clamp (n := P) (by omega), hzo9]
        have hI := wI_w (ws' := xW E ad iv ch rd tp (bumpR rf (setC shI szI (nI P) i)) (hdI shI aqI) nw tr gr dy im ++ (itsW (itF E aqI shI soI szI kmI bmI (gd (setC shI szI (nI P) i) (va_up RI (nI P).toNatClampNeg (va_up (RI (nI P).toNatClampNeg) i.toNatClampNeg (fitV (soI (nI P).toNatClampNeg) v))) RI)))) (by rw [erf, eRI]; try rfl) hI
        exact hret () 1 _ _ (0 + 1 + 3) (0 + 7 + 222) _ _ dX0_set_25 hI (by show 1 = gd (setC shI szI (nI P) i) 1 (setC shI szI (nI P) i); rw [hC]; first | rfl | (simp only [nI_clamp (n := P) (by omega)]; rfl) | (simp only [gd_0, nI_clamp (n := P) (by omega)]; split <;> first | rfl | contradiction)) (Nat.le_of_ble_eq_true rfl) (Nat.le_of_ble_eq_true rfl) rfl
  · skip
    have c_1 : ¬ (0 ≤ Int32.toInt x ∧ Int32.toInt x ≤ 7) := of_decide_eq_false c_1
    refine lv_if_ne (tgt := 14) hxR hbR dX0_set_4 (by decide) (fun c => absurd c (by decide)) (fun _ => ?_)
    refine lv_aload_n hxR hbR dX0_set_7 rfl (lv_at hl 0 rfl) ?_
    refine lv_bipush (v := (-2)) hxR hbR dX0_set_8 (by decide) ?_
    refine kVI (n := 1) (As := [.int (-2)]) (rest := []) (fun w => w ++ (itsW (itF E aqI shI soI szI kmI bmI RI))) hxR hbR hmlR hts hown hK hA hl.1 (isCtx.suf _) hI (c0_no l E ad iv ch rd tp rf (hdI shI aqI) nw tr gr dy im (-2) 2 (by decide) (by decide)) (lw_V q396 q398 qs2 q81 q399) ⟨rfl, by decide +kernel⟩ 8 0 rfl rfl xW_o rfl (Nat.le_of_ble_eq_true rfl) (Nat.le_of_ble_eq_true rfl) ⟨Nat.le_of_ble_eq_true rfl, Nat.le_of_ble_eq_true rfl⟩ (Nat.le_of_ble_eq_true rfl) dX0_set_10 (fun r_10 u H locs hp hI hz => ?_)
    have hI : wI E AR sR H locs (xW E ad iv ch rd tp (va_up rf 2 (rf 2 + 1)) (hdI shI aqI) nw tr gr dy im ++ (itsW (itF E aqI shI soI szI kmI bmI RI))) := hI
    have hp : r_10 = (-2) := hp
    have hr_10 := hp
    subst hr_10
    have hC : setC shI szI x i = (-2) := by
      clear hret hI
      unfold setC noRowV; simp only [if_neg c_1]; rfl
    have erf : bumpR rf (setC shI szI x i) = va_up rf 2 (rf 2 + 1) := by rw [hC]; exact bump_2 _
    have eRI : gd (setC shI szI x i) (va_up RI x.toNatClampNeg (va_up (RI x.toNatClampNeg) i.toNatClampNeg (fitV (soI x.toNatClampNeg) v))) RI = RI := by rw [hC]; first | rfl | (simp only [gd_0]; split <;> first | rfl | contradiction) | (exfalso; omega)
    have hI := wI_w (ws' := xW E ad iv ch rd tp (bumpR rf (setC shI szI x i)) (hdI shI aqI) nw tr gr dy im ++ (itsW (itF E aqI shI soI szI kmI bmI (gd (setC shI szI x i) (va_up RI x.toNatClampNeg (va_up (RI x.toNatClampNeg) i.toNatClampNeg (fitV (soI x.toNatClampNeg) v))) RI)))) (by rw [erf, eRI]; try rfl) hI
    exact hret () (-2) _ _ 0 0 _ _ dX0_set_13 hI (by show (-2) = gd (setC shI szI x i) 1 (setC shI szI x i); rw [hC]; first | rfl | (simp only [gd_0]; split <;> first | rfl | contradiction)) (Nat.le_of_ble_eq_true rfl) (Nat.le_of_ble_eq_true rfl) rfl

theorem c0_element (l : Launch) (E : En) (ad : Nat → Nat) (iv : Nat → Int32) (ch : Nat → Int32) (rd : Nat → Int32) (tp : Nat → Int32) (rf : Nat → Int32) (nw : Nat) (tr : Nat) (gr : Nat) (dy : Nat) (im : Option Nat) (aqI : Nat → Nat) (shI : Nat → Int32) (soI : Nat → Int32) (szI : Nat → Int32) (kmI : Nat → Int32) (bmI : Nat → Int32) (RI : Nat → Nat → Int64) (x i : Int32) (hlt : l.stackTraces = false) (hsh : ∀ P, P < 8 → shI P = 0 ∨ shI P = 1 ∨ shI P = 2) (hso : ∀ P, P < 8 → ∃ k, k ≤ 4 ∧ soI P = nI k) (hsz : ∀ P, P < 8 → ∃ k, k ≤ 40 ∧ szI P = nI k) (hkm : ∀ P, P < 8 → shI P = 2 → ∃ k, 1 ≤ k ∧ k ≤ 5 ∧ kmI P = nI k) (hbm : ∀ P, P < 8 → ∃ k, k < 100 ∧ bmI P = nI k) (hrk : ∀ P, P < 8 → shI P = 1 → ∀ j, j < (szI P).toNatClampNeg → rOk (soI P).toNatClampNeg (RI P j)) : XtL l E yX0_element (wsW_ yX0_element cX0_element 4 (some .long) [(9, 18, 19, 111), (9, 18, 22, 126)]) 107 4 229 [.ref (ad 11), .int x, .int i] (xW E ad iv ch rd tp rf (hdI shI aqI) nw tr gr dy im ++ (itsW (itF E aqI shI soI szI kmI bmI RI))) (fun (r : Int64) (u : Unit) => r = elemV shI szI RI x i) (fun (u : Unit) => xW E ad iv ch rd tp rf (hdI shI aqI) nw tr gr dy im ++ (itsW (itF E aqI shI soI szI kmI bmI RI))) (fun (_ : String) (_ : Unit) => False) (fun (_ : Unit) (_ : Nat) => []) := by
  refine XtL.ofH (by decide +kernel) (Nat.le_of_ble_eq_true rfl) ?_
  intro pR eR sR mR aR bR tR cR AR ls QR hxR hbR hmlR hts hown hlk hnm hA hK hI hl htab hret hthr
  have hl : lv_has ls 4 [(0, .ref (ad 11)), (1, .int x), (2, .int i)] := hl
  refine lv_iload_n hxR hbR dX0_element_0 rfl (lv_at hl 1 rfl) ?_
  refine kSI (n := 1) (As := [.int x]) (rest := []) (fun w => w ++ (xW E ad iv ch rd tp rf (hdI shI aqI) nw tr gr dy im ++ (itsW (itF E aqI shI soI szI kmI bmI RI)))) hxR hbR hmlR hts hown hK hA hl.1 (isCtx.suf _) hI (c0_isShelf l E  x ) (lw_S q390 q391 q81 q392) (by decide +kernel) rfl (Nat.le_of_ble_eq_true rfl) (Nat.le_of_ble_eq_true rfl) ⟨Nat.le_of_ble_eq_true rfl, Nat.le_of_ble_eq_true rfl⟩ (Nat.le_of_ble_eq_true rfl) dX0_element_1 (fun r_1 u H locs hp hI hz => ?_)
  have hI : wI E AR sR H locs (xW E ad iv ch rd tp rf (hdI shI aqI) nw tr gr dy im ++ (itsW (itF E aqI shI soI szI kmI bmI RI))) := hI
  have hp : r_1 = b2i (decide (0 ≤ x.toInt ∧ x.toInt ≤ 7)) := hp
  have hr_1 := hp
  rcases b2i_cases hr_1 with ⟨c_1, rfl⟩ | ⟨c_1, rfl⟩
  · skip
    have c_1 : 0 ≤ Int32.toInt x ∧ Int32.toInt x ≤ 7 := of_decide_eq_true c_1
    obtain ⟨P, hP, rfl⟩ := nat7 c_1
    have tP : (nI P).toInt = (P : Int) := nI_toInt (by omega)
    refine lv_if_ne (tgt := 9) hxR hbR dX0_element_4 (by decide) (fun _ => ?_) (fun c => absurd c (by decide))
    refine lv_aload_n hxR hbR dX0_element_9 rfl (lv_at hl 0 rfl) ?_
    refine lv_iload_n hxR hbR dX0_element_10 rfl (lv_at hl 1 rfl) ?_
    refine kVRX (n := 1) (As := [.int (nI P)]) (rest := []) (fun w => w) hxR hbR hmlR hts hown hK hA hl.1 isCtx.id hI (c0_rowIn l E ad iv ch rd tp rf nw tr gr dy im aqI shI soI szI kmI bmI RI P hlt hP (by first | omega | with_reducible assumption) (by first | omega | with_reducible assumption) (by first | omega | with_reducible assumption) (by first | omega | with_reducible assumption) (by first | omega | with_reducible assumption)) (lw_V q430 q432 qs3 q81 q433) ⟨rfl, by decide +kernel⟩ 8 0 rfl rfl (he_l xW_o) rfl (Nat.le_of_ble_eq_true rfl) (Nat.le_of_ble_eq_true rfl) ⟨by omega, by omega⟩ (Nat.le_of_ble_eq_true rfl) dX0_element_11 (fun En ce_11 q_11 u H locs hX hI hz hq1 hq2 hq3 => ?_) (fun r_11 u H locs hp hI hz => ?_)
    · skip
      have hI : wI E AR sR H locs (xW E ad iv ch rd tp rf (hdI shI aqI) nw tr gr dy im ++ (itsW (itF E aqI shI soI szI kmI bmI RI) ++ ([(q_11, .inr (6, [.null, .null, .null, .null, .null, .int 0, .int (noRowV shI (nI P))]))]))) := hI
      have hI : wI E AR sR _ _ (xW E ad iv ch rd tp rf (hdI shI aqI) nw tr gr dy im ++ ([(q_11, .inr (6, [.null, .null, .null, .null, .null, .int 0, .int (noRowV shI (nI P))]))] ++ (itsW (itF E aqI shI soI szI kmI bmI RI)))) := wI_pick ([xW E ad iv ch rd tp rf (hdI shI aqI) nw tr gr dy im, itsW (itF E aqI shI soI szI kmI bmI RI), [(q_11, .inr (6, [.null, .null, .null, .null, .null, .int 0, .int (noRowV shI (nI P))]))]]) [0, 2, 1] 3 rfl (by decide) hI
      have hX : En = "ThreeStrangers$Refused" ∧ ¬ noRowV shI (nI P) = 0 := hX
      obtain ⟨rfl, hy9_11⟩ := hX
      refine r_catch 0 _ hown hts hK.xw htab rfl (fun z hz => absurd hz List.not_mem_nil) (by decide) (by decide) q410 q436 hq1 hq2 hq3 ?_
      refine W.eq (g2 := F0 mR 19 ls [.ref q_11]) rfl ?_
      refine lv_astore_n (lv' := [(3, .ref q_11), (0, .ref (ad 11)), (1, .int (nI P)), (2, .int i)]) hxR hbR dX0_element_19 rfl hl (by decide) rfl (fun ls hl => ?_)
      refine lv_lconst (v := 0) hxR hbR dX0_element_20 (by decide) ?_
      have hI : wI E AR sR _ _ ([(q_11, .inr (6, [.null, .null, .null, .null, .null, .int 0, .int (noRowV shI (nI P))]))] ++ (xW E ad iv ch rd tp rf (hdI shI aqI) nw tr gr dy im ++ (itsW (itF E aqI shI soI szI kmI bmI RI)))) := wI_pick ([xW E ad iv ch rd tp rf (hdI shI aqI) nw tr gr dy im, [(q_11, .inr (6, [.null, .null, .null, .null, .null, .int 0, .int (noRowV shI (nI P))]))], itsW (itF E aqI shI soI szI kmI bmI RI)]) [1, 0, 2] 3 rfl (by decide) hI
      have hI := wI_dropL hI
      exact hret () (0 : Int64) _ _ _ _ _ _ dX0_element_21 hI (by show (0 : Int64) = elemV shI szI RI (nI P) i; unfold elemV; rw [if_neg (fun z => hy9_11 (norow_1 hP (by have h2 := z.2.1; rw [nI_clamp (by omega)] at h2; exact h2)))]) (by omega) (by omega)
    · skip
      have hI : wI E AR sR H locs (xW E ad iv ch rd tp rf (hdI shI aqI) nw tr gr dy im ++ (itsW (itF E aqI shI soI szI kmI bmI RI))) := hI
      have hp : r_11 = aqI P ∧ shI P = 1 := hp
      obtain ⟨rfl, hrow_11⟩ := hp
      have c_h := hrow_11
      have hI : wI E AR sR _ _ (itsW (itF E aqI shI soI szI kmI bmI RI) ++ (xW E ad iv ch rd tp rf (hdI shI aqI) nw tr gr dy im)) := wI_pick ([xW E ad iv ch rd tp rf (hdI shI aqI) nw tr gr dy im, itsW (itF E aqI shI soI szI kmI bmI RI)]) [1, 0] 2 rfl (by decide) hI
      obtain ⟨zo, hzo, hzo9⟩ := hso P hP
      obtain ⟨zn, hzn, hzn9⟩ := hsz P hP
      have hI := its_out (f := itF E aqI shI soI szI kmI bmI RI) hP (itF_row c_h hzo9 hzn9 (by omega) (by omega)) hI
      have hI : wI E AR sR _ _ (rowW E (aqI P) zo zn (RI P) ++ (itsX (itF E aqI shI soI szI kmI bmI RI) P ++ (xW E ad iv ch rd tp rf (hdI shI aqI) nw tr gr dy im))) := hI
      have hI : wI E AR sR _ _ (xW E ad iv ch rd tp rf (hdI shI aqI) nw tr gr dy im ++ (rowW E (aqI P) zo zn (RI P) ++ (itsX (itF E aqI shI soI szI kmI bmI RI) P))) := wI_pick ([rowW E (aqI P) zo zn (RI P), itsX (itF E aqI shI soI szI kmI bmI RI) P, xW E ad iv ch rd tp rf (hdI shI aqI) nw tr gr dy im]) [2, 0, 1] 3 rfl (by decide) hI
      refine lv_iload_n hxR hbR dX0_element_14 rfl (lv_at hl 2 rfl) ?_
      refine kSLX (n := 2) (As := [.ref (aqI P), .int i]) (rest := []) (fun w => (xW E ad iv ch rd tp rf (hdI shI aqI) nw tr gr dy im) ++ (w ++ (itsX (itF E aqI shI soI szI kmI bmI RI) P))) hxR hbR hmlR hts hown hK hA hl.1 (isCtx.mk _ _) hI (c0_elementOf l E (aqI P) zo zn (RI P) i hlt hzo hzn (by have h9 := hrk P hP c_h; rw [hzo9, hzn9, nI_clamp (by omega), nI_clamp (by omega)] at h9; exact h9)) (lw_S q523 q524 q81 q525) (by decide +kernel) rfl (Nat.le_of_ble_eq_true rfl) (Nat.le_of_ble_eq_true rfl) ⟨by omega, by omega⟩ (Nat.le_of_ble_eq_true rfl) dX0_element_15 (fun En ce_15 q_15 u H locs hX hI hz hq1 hq2 hq3 => ?_) (fun r_15 u H locs hp hI hz => ?_)
      · skip
        have hI : wI E AR sR H locs (xW E ad iv ch rd tp rf (hdI shI aqI) nw tr gr dy im ++ (rowW E (aqI P) zo zn (RI P) ++ (itsX (itF E aqI shI soI szI kmI bmI RI) P))) := hI
        have hX : En = "java/lang/ArrayIndexOutOfBoundsException" ∧ ¬ vp_in i zn := hX
        obtain ⟨rfl, hout_15⟩ := hX
        refine r_catch 1 _ hown hts hK.xw htab rfl (List.forall_mem_cons.mpr ⟨Or.inr ⟨by decide, "ThreeStrangers$Refused", hts _ q410, iA.no (a := "java/lang/ArrayIndexOutOfBoundsException") (b := "ThreeStrangers$Refused") hK.xw (by decide +kernel)⟩, (fun z hz => absurd hz List.not_mem_nil)⟩) (by decide) (by decide) q411 q426 hq1 hq2 hq3 ?_
        refine W.eq (g2 := F0 mR 22 ls [.ref q_15]) rfl ?_
        have hI : wI E AR sR _ _ (rowW E (aqI P) zo zn (RI P) ++ (itsX (itF E aqI shI soI szI kmI bmI RI) P ++ (xW E ad iv ch rd tp rf (hdI shI aqI) nw tr gr dy im))) := wI_pick ([xW E ad iv ch rd tp rf (hdI shI aqI) nw tr gr dy im, rowW E (aqI P) zo zn (RI P), itsX (itF E aqI shI soI szI kmI bmI RI) P]) [1, 2, 0] 3 rfl (by decide) hI
        have hI := its_in (f := itF E aqI shI soI szI kmI bmI RI) (g := itF E aqI shI soI szI kmI bmI RI) hP (fun _ _ => rfl) (itF_row c_h hzo9 hzn9 (by omega) (by omega)) hI
        have hI : wI E AR sR _ _ (itsW (itF E aqI shI soI szI kmI bmI RI) ++ (xW E ad iv ch rd tp rf (hdI shI aqI) nw tr gr dy im)) := hI
        have hI : wI E AR sR _ _ (xW E ad iv ch rd tp rf (hdI shI aqI) nw tr gr dy im ++ (itsW (itF E aqI shI soI szI kmI bmI RI))) := wI_pick ([itsW (itF E aqI shI soI szI kmI bmI RI), xW E ad iv ch rd tp rf (hdI shI aqI) nw tr gr dy im]) [1, 0] 2 rfl (by decide) hI
        refine lv_astore_n (lv' := [(3, .ref q_15), (0, .ref (ad 11)), (1, .int (nI P)), (2, .int i)]) hxR hbR dX0_element_22 rfl hl (by decide) rfl (fun ls hl => ?_)
        refine lv_lconst (v := 0) hxR hbR dX0_element_23 (by decide) ?_
        exact hret () (0 : Int64) _ _ _ _ _ _ dX0_element_24 hI (by show (0 : Int64) = elemV shI szI RI (nI P) i; unfold elemV; rw [if_neg (fun z => hout_15 ((vpin_i (by omega)).mpr (by have h2 := z.2.2; rw [nI_clamp (n := P) (by omega), hzn9, nI_clamp (by omega)] at h2; exact h2)))]) (by omega) (by omega)
      · skip
        have hI : wI E AR sR H locs (xW E ad iv ch rd tp rf (hdI shI aqI) nw tr gr dy im ++ (rowW E (aqI P) zo zn (RI P) ++ (itsX (itF E aqI shI soI szI kmI bmI RI) P))) := hI
        have hp : r_15 = (RI P) i.toNatClampNeg ∧ vp_in i zn := hp
        obtain ⟨rfl, hin_15⟩ := hp
        have hI : wI E AR sR _ _ (rowW E (aqI P) zo zn (RI P) ++ (itsX (itF E aqI shI soI szI kmI bmI RI) P ++ (xW E ad iv ch rd tp rf (hdI shI aqI) nw tr gr dy im))) := wI_pick ([xW E ad iv ch rd tp rf (hdI shI aqI) nw tr gr dy im, rowW E (aqI P) zo zn (RI P), itsX (itF E aqI shI soI szI kmI bmI RI) P]) [1, 2, 0] 3 rfl (by decide) hI
        have hI := its_in (f := itF E aqI shI soI szI kmI bmI RI) (g := itF E aqI shI soI szI kmI bmI RI) hP (fun _ _ => rfl) (itF_row c_h hzo9 hzn9 (by omega) (by omega)) hI
        have hI : wI E AR sR _ _ (itsW (itF E aqI shI soI szI kmI bmI RI) ++ (xW E ad iv ch rd tp rf (hdI shI aqI) nw tr gr dy im)) := hI
        have hI : wI E AR sR _ _ (xW E ad iv ch rd tp rf (hdI shI aqI) nw tr gr dy im ++ (itsW (itF E aqI shI soI szI kmI bmI RI))) := wI_pick ([itsW (itF E aqI shI soI szI kmI bmI RI), xW E ad iv ch rd tp rf (hdI shI aqI) nw tr gr dy im]) [1, 0] 2 rfl (by decide) hI
        exact hret () ((RI P) i.toNatClampNeg) _ _ _ _ _ _ dX0_element_18 hI (by show ((RI P) i.toNatClampNeg) = elemV shI szI RI (nI P) i; unfold elemV; rw [nI_clamp (n := P) (by omega), hzn9, nI_clamp (n := zn) (by omega), if_pos ⟨in7 hP, c_h, (vpin_i (by omega)).mp hin_15⟩]) (by omega) (by omega)
  · skip
    have c_1 : ¬ (0 ≤ Int32.toInt x ∧ Int32.toInt x ≤ 7) := of_decide_eq_false c_1
    refine lv_if_ne (tgt := 9) hxR hbR dX0_element_4 (by decide) (fun c => absurd c (by decide)) (fun _ => ?_)
    refine lv_lconst (v := 0) hxR hbR dX0_element_7 (by decide) ?_
    exact hret () (0 : Int64) _ _ _ _ _ _ dX0_element_8 hI (by show (0 : Int64) = elemV shI szI RI x i; unfold elemV; rw [if_neg (fun z => c_1 z.1)]) (by omega) (by omega)

theorem c0_holds (l : Launch) (E : En) (ad : Nat → Nat) (iv : Nat → Int32) (ch : Nat → Int32) (rd : Nat → Int32) (tp : Nat → Int32) (rf : Nat → Int32) (nw : Nat) (tr : Nat) (gr : Nat) (dy : Nat) (im : Option Nat) (aqI : Nat → Nat) (shI : Nat → Int32) (soI : Nat → Int32) (szI : Nat → Int32) (kmI : Nat → Int32) (bmI : Nat → Int32) (RI : Nat → Nat → Int64) (x : Int32) (hsh : ∀ P, P < 8 → shI P = 0 ∨ shI P = 1 ∨ shI P = 2) (hso : ∀ P, P < 8 → ∃ k, k ≤ 4 ∧ soI P = nI k) (hsz : ∀ P, P < 8 → ∃ k, k ≤ 40 ∧ szI P = nI k) (hkm : ∀ P, P < 8 → shI P = 2 → ∃ k, 1 ≤ k ∧ k ≤ 5 ∧ kmI P = nI k) (hbm : ∀ P, P < 8 → ∃ k, k < 100 ∧ bmI P = nI k) : CtI l E yX0_holds cX0_holds 3 .int 4 0 0 [.ref (ad 11), .int x] (xW E ad iv ch rd tp rf (hdI shI aqI) nw tr gr dy im ++ (itsW (itF E aqI shI soI szI kmI bmI RI))) (fun (r : Int32) (u : Unit) => r = holdsV shI soI kmI x) (fun (u : Unit) => xW E ad iv ch rd tp rf (hdI shI aqI) nw tr gr dy im ++ (itsW (itF E aqI shI soI szI kmI bmI RI))) := by
  refine CtI.of (by decide +kernel) (Nat.le_of_ble_eq_true rfl) ?_
  intro pR eR sR mR aR bR tR cR AR ls QR hxR hbR hmlR hts hown hlk hnm hA hK hI hl hret
  have hl : lv_has ls 3 [(0, .ref (ad 11)), (1, .int x)] := hl
  refine lv_iload_n hxR hbR dX0_holds_0 rfl (lv_at hl 1 rfl) ?_
  refine kSI (n := 1) (As := [.int x]) (rest := []) (fun w => w ++ (xW E ad iv ch rd tp rf (hdI shI aqI) nw tr gr dy im ++ (itsW (itF E aqI shI soI szI kmI bmI RI)))) hxR hbR hmlR hts hown hK hA hl.1 (isCtx.suf _) hI (c0_isShelf l E  x ) (lw_S q390 q391 q81 q392) (by decide +kernel) rfl (Nat.le_of_ble_eq_true rfl) (Nat.le_of_ble_eq_true rfl) ⟨Nat.le_of_ble_eq_true rfl, Nat.le_of_ble_eq_true rfl⟩ (Nat.le_of_ble_eq_true rfl) dX0_holds_1 (fun r_1 u H locs hp hI hz => ?_)
  have hI : wI E AR sR H locs (xW E ad iv ch rd tp rf (hdI shI aqI) nw tr gr dy im ++ (itsW (itF E aqI shI soI szI kmI bmI RI))) := hI
  have hp : r_1 = b2i (decide (0 ≤ x.toInt ∧ x.toInt ≤ 7)) := hp
  have hr_1 := hp
  rcases b2i_cases hr_1 with ⟨c_1, rfl⟩ | ⟨c_1, rfl⟩
  · skip
    have c_1 : 0 ≤ Int32.toInt x ∧ Int32.toInt x ≤ 7 := of_decide_eq_true c_1
    obtain ⟨P, hP, rfl⟩ := nat7 c_1
    have tP : (nI P).toInt = (P : Int) := nI_toInt (by omega)
    refine lv_if_eq (tgt := 19) hxR hbR dX0_holds_4 (by decide) (fun c => absurd c (by decide)) (fun _ => ?_)
    refine lv_aload_n hxR hbR dX0_holds_7 rfl (lv_at hl 0 rfl) ?_
    refine r_get hxR hbR hts hown hK hI okX0 (ci := 0) rfl 8 (he_l xW_o) 7 (by decide) q271 rfl (v := .ref (ad 7)) rfl dX0_holds_8 ?_
    refine lv_iload_n hxR hbR dX0_holds_11 rfl (lv_at hl 1 rfl) ?_
    refine r_aald hxR hbR hK hI 11 7 (r := ad (20 + P)) rfl rfl (n := 8) (J := P) (he_l rfl) hP (by decide) rfl dX0_holds_12 ?_
    rcases hsh P hP with c_h | c_h | c_h
    · skip
      refine r_get hxR hbR hts hown hK hI okX4 (ci := 4) rfl P (he_l (xW_s P hP)) 0 (by decide) q258 rfl (v := .null) (congrArg (fun z => some (va_rf z)) (hdI_0 (by rw [c_h]; decide) (by rw [c_h]; decide))) dX0_holds_13 ?_
      refine lv_ifnonnullN hxR hbR dX0_holds_16 ?_
      refine lv_iconst (v := (-1)) hxR hbR dX0_holds_19 (by decide) ?_
      exact hret () (-1) _ _ _ _ _ _ dX0_holds_20 hI (by show (-1) = holdsV shI soI kmI (nI P); unfold holdsV; rw [nI_clamp (n := P) (by omega), if_neg (fun z => z.2 c_h)]) (Nat.le_of_ble_eq_true rfl) (Nat.le_of_ble_eq_true rfl) rfl
    · skip
      refine r_get hxR hbR hts hown hK hI okX4 (ci := 4) rfl P (he_l (xW_s P hP)) 0 (by decide) q258 rfl (v := .ref (aqI P)) (congrArg (fun z => some (va_rf z)) (hdI_1 c_h)) dX0_holds_13 ?_
      refine lv_ifnonnull (tgt := 21) hxR hbR dX0_holds_16 (by decide) ?_
      refine lv_aload_n hxR hbR dX0_holds_21 rfl (lv_at hl 0 rfl) ?_
      refine r_get hxR hbR hts hown hK hI okX0 (ci := 0) rfl 8 (he_l xW_o) 7 (by decide) q271 rfl (v := .ref (ad 7)) rfl dX0_holds_22 ?_
      refine lv_iload_n hxR hbR dX0_holds_25 rfl (lv_at hl 1 rfl) ?_
      refine r_aald hxR hbR hK hI 11 7 (r := ad (20 + P)) rfl rfl (n := 8) (J := P) (he_l rfl) hP (by decide) rfl dX0_holds_26 ?_
      refine r_get hxR hbR hts hown hK hI okX4 (ci := 4) rfl P (he_l (xW_s P hP)) 0 (by decide) q258 rfl (v := .ref (aqI P)) (congrArg (fun z => some (va_rf z)) (hdI_1 c_h)) dX0_holds_27 ?_
      have hI : wI E AR sR _ _ (itsW (itF E aqI shI soI szI kmI bmI RI) ++ (xW E ad iv ch rd tp rf (hdI shI aqI) nw tr gr dy im)) := wI_pick ([xW E ad iv ch rd tp rf (hdI shI aqI) nw tr gr dy im, itsW (itF E aqI shI soI szI kmI bmI RI)]) [1, 0] 2 rfl (by decide) hI
      obtain ⟨zo, hzo, hzo9⟩ := hso P hP
      obtain ⟨zn, hzn, hzn9⟩ := hsz P hP
      have hI := its_out (f := itF E aqI shI soI szI kmI bmI RI) hP (itF_row c_h hzo9 hzn9 (by omega) (by omega)) hI
      have hI : wI E AR sR _ _ (rowW E (aqI P) zo zn (RI P) ++ (itsX (itF E aqI shI soI szI kmI bmI RI) P ++ (xW E ad iv ch rd tp rf (hdI shI aqI) nw tr gr dy im))) := hI
      have hI : wI E AR sR _ _ (xW E ad iv ch rd tp rf (hdI shI aqI) nw tr gr dy im ++ (rowW E (aqI P) zo zn (RI P) ++ (itsX (itF E aqI shI soI szI kmI bmI RI) P))) := wI_pick ([rowW E (aqI P) zo zn (RI P), itsX (itF E aqI shI soI szI kmI bmI RI) P, xW E ad iv ch rd tp rf (hdI shI aqI) nw tr gr dy im]) [2, 0, 1] 3 rfl (by decide) hI
      refine lv_astore_n (lv' := [(2, .ref (aqI P)), (0, .ref (ad 11)), (1, .int (nI P))]) hxR hbR dX0_holds_30 rfl hl (by decide) rfl (fun ls hl => ?_)
      refine lv_aload_n hxR hbR dX0_holds_31 rfl (lv_at hl 0 rfl) ?_
      refine r_instF hxR hbR hts hown q434 (va_Nc.iA (iA.no hK.xw (row_ncM hzo))) (row_isA hK hI (q0 := (14 + 0)) hzo (he_r (Nat.le_of_ble_eq_true rfl) (Nat.le_of_ble_eq_true rfl) (he_l rfl))) dX0_holds_32 ?_
      refine lv_if_eq (tgt := 51) hxR hbR dX0_holds_35 (by decide) (fun _ => ?_) (fun c => absurd c (by decide))
      refine lv_aload_n hxR hbR dX0_holds_51 rfl (lv_at hl 0 rfl) ?_
      refine kSI (n := 1) (As := [.ref (aqI P)]) (rest := []) (fun w => (xW E ad iv ch rd tp rf (hdI shI aqI) nw tr gr dy im) ++ (w ++ (itsX (itF E aqI shI soI szI kmI bmI RI) P))) hxR hbR hmlR hts hown hK hA hl.1 (isCtx.mk _ _) hI (c0_sortOf l E (aqI P) zo zn (RI P)  hzo) (lw_S q464 q465 q81 q466) (by decide +kernel) rfl (Nat.le_of_ble_eq_true rfl) (Nat.le_of_ble_eq_true rfl) ⟨Nat.le_of_ble_eq_true rfl, Nat.le_of_ble_eq_true rfl⟩ (Nat.le_of_ble_eq_true rfl) dX0_holds_52 (fun r_52 u H locs hp hI hz => ?_)
      have hI : wI E AR sR H locs (xW E ad iv ch rd tp rf (hdI shI aqI) nw tr gr dy im ++ (rowW E (aqI P) zo zn (RI P) ++ (itsX (itF E aqI shI soI szI kmI bmI RI) P))) := hI
      have hp : r_52 = nI zo := hp
      have hr_52 := hp
      subst hr_52
      have hI : wI E AR sR _ _ (rowW E (aqI P) zo zn (RI P) ++ (itsX (itF E aqI shI soI szI kmI bmI RI) P ++ (xW E ad iv ch rd tp rf (hdI shI aqI) nw tr gr dy im))) := wI_pick ([xW E ad iv ch rd tp rf (hdI shI aqI) nw tr gr dy im, rowW E (aqI P) zo zn (RI P), itsX (itF E aqI shI soI szI kmI bmI RI) P]) [1, 2, 0] 3 rfl (by decide) hI
      have hI := its_in (f := itF E aqI shI soI szI kmI bmI RI) (g := itF E aqI shI soI szI kmI bmI RI) hP (fun _ _ => rfl) (itF_row c_h hzo9 hzn9 (by omega) (by omega)) hI
      have hI : wI E AR sR _ _ (itsW (itF E aqI shI soI szI kmI bmI RI) ++ (xW E ad iv ch rd tp rf (hdI shI aqI) nw tr gr dy im)) := hI
      have hI : wI E AR sR _ _ (xW E ad iv ch rd tp rf (hdI shI aqI) nw tr gr dy im ++ (itsW (itF E aqI shI soI szI kmI bmI RI))) := wI_pick ([itsW (itF E aqI shI soI szI kmI bmI RI), xW E ad iv ch rd tp rf (hdI shI aqI) nw tr gr dy im]) [1, 0] 2 rfl (by decide) hI
      exact hret () (nI zo) _ _ _ _ _ _ dX0_holds_55 hI (by show (nI zo) = holdsV shI soI kmI (nI P); unfold holdsV; rw [nI_clamp (n := P) (by omega), if_pos ⟨in7 hP, by rw [c_h]; decide⟩, if_pos c_h, hzo9]) (Nat.le_of_ble_eq_true rfl) (Nat.le_of_ble_eq_true rfl) rfl
    · skip
      refine r_get hxR hbR hts hown hK hI okX4 (ci := 4) rfl P (he_l (xW_s P hP)) 0 (by decide) q258 rfl (v := .ref (aqI P)) (congrArg (fun z => some (va_rf z)) (hdI_2 c_h)) dX0_holds_13 ?_
      refine lv_ifnonnull (tgt := 21) hxR hbR dX0_holds_16 (by decide) ?_
      refine lv_aload_n hxR hbR dX0_holds_21 rfl (lv_at hl 0 rfl) ?_
      refine r_get hxR hbR hts hown hK hI okX0 (ci := 0) rfl 8 (he_l xW_o) 7 (by decide) q271 rfl (v := .ref (ad 7)) rfl dX0_holds_22 ?_
      refine lv_iload_n hxR hbR dX0_holds_25 rfl (lv_at hl 1 rfl) ?_
      refine r_aald hxR hbR hK hI 11 7 (r := ad (20 + P)) rfl rfl (n := 8) (J := P) (he_l rfl) hP (by decide) rfl dX0_holds_26 ?_
      refine r_get hxR hbR hts hown hK hI okX4 (ci := 4) rfl P (he_l (xW_s P hP)) 0 (by decide) q258 rfl (v := .ref (aqI P)) (congrArg (fun z => some (va_rf z)) (hdI_2 c_h)) dX0_holds_27 ?_
      have hI : wI E AR sR _ _ (itsW (itF E aqI shI soI szI kmI bmI RI) ++ (xW E ad iv ch rd tp rf (hdI shI aqI) nw tr gr dy im)) := wI_pick ([xW E ad iv ch rd tp rf (hdI shI aqI) nw tr gr dy im, itsW (itF E aqI shI soI szI kmI bmI RI)]) [1, 0] 2 rfl (by decide) hI
      obtain ⟨zk, hk1m, hk5m, hzk9⟩ := hkm P hP c_h
      obtain ⟨zb, hzb, hzb9⟩ := hbm P hP
      have hI := its_out (f := itF E aqI shI soI szI kmI bmI RI) hP (itF_man c_h hzk9 (by omega)) hI
      have hI : wI E AR sR _ _ (manW E (aqI P) zk (bmI P) ++ (itsX (itF E aqI shI soI szI kmI bmI RI) P ++ (xW E ad iv ch rd tp rf (hdI shI aqI) nw tr gr dy im))) := hI
      have hI : wI E AR sR _ _ (xW E ad iv ch rd tp rf (hdI shI aqI) nw tr gr dy im ++ (manW E (aqI P) zk (bmI P) ++ (itsX (itF E aqI shI soI szI kmI bmI RI) P))) := wI_pick ([manW E (aqI P) zk (bmI P), itsX (itF E aqI shI soI szI kmI bmI RI) P, xW E ad iv ch rd tp rf (hdI shI aqI) nw tr gr dy im]) [2, 0, 1] 3 rfl (by decide) hI
      refine lv_astore_n (lv' := [(2, .ref (aqI P)), (0, .ref (ad 11)), (1, .int (nI P))]) hxR hbR dX0_holds_30 rfl hl (by decide) rfl (fun ls hl => ?_)
      refine lv_aload_n hxR hbR dX0_holds_31 rfl (lv_at hl 0 rfl) ?_
      refine r_instT hxR hbR hts hown q434 (man_iA hK hk1m hk5m) (man_isA hK hI (q0 := (14 + 0)) hk1m hk5m (he_r (Nat.le_of_ble_eq_true rfl) (Nat.le_of_ble_eq_true rfl) (he_l rfl))) dX0_holds_32 ?_
      refine lv_if_eq (tgt := 51) hxR hbR dX0_holds_35 (by decide) (fun c => absurd c (by decide)) (fun _ => ?_)
      refine lv_bipush (v := 10) hxR hbR dX0_holds_38 (by decide) ?_
      refine lv_aload_n hxR hbR dX0_holds_40 rfl (lv_at hl 0 rfl) ?_
      refine r_castT hxR hbR hts hown q434 (man_iA hK hk1m hk5m) (man_isA hK hI (q0 := (14 + 0)) hk1m hk5m (he_r (Nat.le_of_ble_eq_true rfl) (Nat.le_of_ble_eq_true rfl) (he_l rfl))) dX0_holds_41 ?_
      refine kKind (n := 0) (As := []) (rest := [.int 10]) (fun w => (xW E ad iv ch rd tp rf (hdI shI aqI) nw tr gr dy im) ++ (w ++ (itsX (itF E aqI shI soI szI kmI bmI RI) P))) hxR hbR hmlR hts hown hK hA hl.1 (isCtx.mk _ _) hI (kind_ok l E (aqI P) zk (bmI P)  hk1m hk5m) (by first | assumption | omega) (by first | assumption | omega) q530 rfl rfl (Nat.le_of_ble_eq_true rfl) (Nat.le_of_ble_eq_true rfl) ⟨Nat.le_of_ble_eq_true rfl, Nat.le_of_ble_eq_true rfl⟩ (Nat.le_of_ble_eq_true rfl) dX0_holds_44 (fun r_44 u H locs hp hI hz => ?_)
      have hI : wI E AR sR H locs (xW E ad iv ch rd tp rf (hdI shI aqI) nw tr gr dy im ++ (manW E (aqI P) zk (bmI P) ++ (itsX (itF E aqI shI soI szI kmI bmI RI) P))) := hI
      have hp : r_44 = nI zk := hp
      have hr_44 := hp
      subst hr_44
      refine lv_iadd hxR hbR dX0_holds_47 ?_
      refine lv_as (y := nI (10 + zk)) (nI_add 10 zk) ?_
      refine lv_goto (tgt := 55) hxR hbR dX0_holds_48 (by decide) ?_
      have hI : wI E AR sR _ _ (manW E (aqI P) zk (bmI P) ++ (itsX (itF E aqI shI soI szI kmI bmI RI) P ++ (xW E ad iv ch rd tp rf (hdI shI aqI) nw tr gr dy im))) := wI_pick ([xW E ad iv ch rd tp rf (hdI shI aqI) nw tr gr dy im, manW E (aqI P) zk (bmI P), itsX (itF E aqI shI soI szI kmI bmI RI) P]) [1, 2, 0] 3 rfl (by decide) hI
      have hI := its_in (f := itF E aqI shI soI szI kmI bmI RI) (g := itF E aqI shI soI szI kmI bmI RI) hP (fun _ _ => rfl) (itF_man c_h hzk9 (by omega)) hI
      have hI : wI E AR sR _ _ (itsW (itF E aqI shI soI szI kmI bmI RI) ++ (xW E ad iv ch rd tp rf (hdI shI aqI) nw tr gr dy im)) := hI
      have hI : wI E AR sR _ _ (xW E ad iv ch rd tp rf (hdI shI aqI) nw tr gr dy im ++ (itsW (itF E aqI shI soI szI kmI bmI RI))) := wI_pick ([itsW (itF E aqI shI soI szI kmI bmI RI), xW E ad iv ch rd tp rf (hdI shI aqI) nw tr gr dy im]) [1, 0] 2 rfl (by decide) hI
      exact hret () (nI (10 + zk)) _ _ _ _ _ _ dX0_holds_55 hI (by show (nI (10 + zk)) = holdsV shI soI kmI (nI P); unfold holdsV; rw [nI_clamp (n := P) (by omega), if_pos ⟨in7 hP, by rw [c_h]; decide⟩, if_neg (by rw [c_h]; decide), hzk9]; exact (nI_add 10 zk).symm) (Nat.le_of_ble_eq_true rfl) (Nat.le_of_ble_eq_true rfl) rfl
  · skip
    have c_1 : ¬ (0 ≤ Int32.toInt x ∧ Int32.toInt x ≤ 7) := of_decide_eq_false c_1
    refine lv_if_eq (tgt := 19) hxR hbR dX0_holds_4 (by decide) (fun _ => ?_) (fun c => absurd c (by decide))
    refine lv_iconst (v := (-1)) hxR hbR dX0_holds_19 (by decide) ?_
    exact hret () (-1) _ _ _ _ _ _ dX0_holds_20 hI (by show (-1) = holdsV shI soI kmI x; unfold holdsV; rw [if_neg (fun z => c_1 z.1)]) (Nat.le_of_ble_eq_true rfl) (Nat.le_of_ble_eq_true rfl) rfl
