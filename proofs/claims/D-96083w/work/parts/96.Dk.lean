theorem norow_0 {sh : Nat → Int32} {P : Nat} (hP : P < 8) (h : sh P = 0) : noRowV sh (nI P) = -4 := by rw [noRowV_n hP, if_neg (by rw [h]; decide), if_pos h]
theorem norow_1 {sh : Nat → Int32} {P : Nat} (hP : P < 8) (h : sh P = 1) : noRowV sh (nI P) = 0 := by rw [noRowV_n hP, if_neg (by rw [h]; decide), if_neg (by rw [h]; decide)]
theorem norow_2 {sh : Nat → Int32} {P : Nat} (hP : P < 8) (h : sh P = 2) : noRowV sh (nI P) = -3 := by rw [noRowV_n hP, if_pos h]
theorem noman_0 {sh : Nat → Int32} {P : Nat} (hP : P < 8) (h : sh P = 0) : noManV sh (nI P) = -4 := by rw [noManV_n hP, if_neg (by rw [h]; decide), if_pos h]
theorem noman_1 {sh : Nat → Int32} {P : Nat} (hP : P < 8) (h : sh P = 1) : noManV sh (nI P) = -3 := by rw [noManV_n hP, if_pos h]
theorem noman_2 {sh : Nat → Int32} {P : Nat} (hP : P < 8) (h : sh P = 2) : noManV sh (nI P) = 0 := by rw [noManV_n hP, if_neg (by rw [h]; decide), if_neg (by rw [h]; decide)]
/-- a coachman is asked for: 0, or the refusal's code -/
def coaV (sh : Nat → Int32) (m x : Int32) : Int32 := if m = 0 then -2 else noManV sh x
theorem coa_x {sh : Nat → Int32} {m x : Int32} (h : ¬ (0 ≤ x.toInt ∧ x.toInt ≤ 7)) : coaV sh m x = -2 := by
  unfold coaV noManV
  rw [if_neg h]
  split <;> rfl
theorem coa_m {sh : Nat → Int32} {m x : Int32} (h : m = 0) : coaV sh m x = -2 := if_pos h
theorem coa_n {sh : Nat → Int32} {m x : Int32} (h : ¬ m = 0) : coaV sh m x = noManV sh x := if_neg h
theorem noman_r {sh : Nat → Int32} {x : Int32} (h : ¬ noManV sh x = 0) : noManV sh x = -2 ∨ noManV sh x = -3 ∨ noManV sh x = -4 := by
  unfold noManV at h ⊢
  split at h
  · rename_i h1
    rw [if_pos h1]
    split at h
    · rename_i h2; rw [if_pos h2]; exact Or.inr (Or.inl rfl)
    · rename_i h2
      rw [if_neg h2]
      split at h
      · rename_i h3; rw [if_pos h3]; exact Or.inr (Or.inr rfl)
      · exact absurd rfl h
  · rename_i h1; rw [if_neg h1]; exact Or.inl rfl
theorem norow_r {sh : Nat → Int32} {x : Int32} (h : ¬ noRowV sh x = 0) : noRowV sh x = -2 ∨ noRowV sh x = -3 ∨ noRowV sh x = -4 := by
  unfold noRowV at h ⊢
  split at h
  · rename_i h1
    rw [if_pos h1]
    split at h
    · rename_i h2; rw [if_pos h2]; exact Or.inr (Or.inl rfl)
    · rename_i h2
      rw [if_neg h2]
      split at h
      · rename_i h3; rw [if_pos h3]; exact Or.inr (Or.inr rfl)
      · exact absurd rfl h
  · rename_i h1; rw [if_neg h1]; exact Or.inl rfl
theorem coa_r {sh : Nat → Int32} {m x : Int32} (h : ¬ coaV sh m x = 0) : coaV sh m x = -2 ∨ coaV sh m x = -3 ∨ coaV sh m x = -4 := by
  by_cases e : m = 0
  · exact Or.inl (coa_m e)
  · rw [coa_n e] at h ⊢; exact noman_r h
theorem coa_0 {sh : Nat → Int32} {m x : Int32} (hsh : ∀ P, P < 8 → sh P = 0 ∨ sh P = 1 ∨ sh P = 2) (h : coaV sh m x = 0) : ∃ P : Nat, P < 8 ∧ x = nI P ∧ sh P = 2 := by
  by_cases e : m = 0
  · rw [coa_m e] at h; exact absurd h (by decide)
  · rw [coa_n e] at h
    obtain ⟨P, hP, rfl⟩ := nm8 h
    obtain ⟨h1, h2⟩ := nm_ne hP h
    exact ⟨P, hP, rfl, ((hsh P hP).resolve_left h2).resolve_left h1⟩

theorem c0_rowIn (l : Launch) (E : En) (ad : Nat → Nat) (iv : Nat → Int32) (ch : Nat → Int32) (rd : Nat → Int32) (tp : Nat → Int32) (rf : Nat → Int32) (nw : Nat) (tr : Nat) (gr : Nat) (dy : Nat) (im : Option Nat) (aqI : Nat → Nat) (shI : Nat → Int32) (soI : Nat → Int32) (szI : Nat → Int32) (kmI : Nat → Int32) (bmI : Nat → Int32) (RI : Nat → Nat → Int64) (J : Nat) (hlt : l.stackTraces = false) (hJ : J < 8) (hsh : ∀ P, P < 8 → shI P = 0 ∨ shI P = 1 ∨ shI P = 2) (hso : ∀ P, P < 8 → ∃ k, k ≤ 4 ∧ soI P = nI k) (hsz : ∀ P, P < 8 → ∃ k, k ≤ 40 ∧ szI P = nI k) (hkm : ∀ P, P < 8 → shI P = 2 → ∃ k, 1 ≤ k ∧ k ≤ 5 ∧ kmI P = nI k) (hbm : ∀ P, P < 8 → ∃ k, k < 100 ∧ bmI P = nI k) : XtR l E yX0_rowIn (ws_ yX0_rowIn cX0_rowIn 3 (some (FieldType.object "java/lang/Object"))) 5 1 7 [.ref (ad 11), .int (nI J)] (xW E ad iv ch rd tp rf (hdI shI aqI) nw tr gr dy im ++ (itsW (itF E aqI shI soI szI kmI bmI RI))) (fun (r : Nat) (u : Unit) => r = aqI J ∧ shI J = 1) (fun (u : Unit) (q : Nat) => xW E ad iv ch rd tp rf (hdI shI aqI) nw tr gr dy im ++ (itsW (itF E aqI shI soI szI kmI bmI RI))) (fun (En : String) (u : Unit) => En = "ThreeStrangers$Refused" ∧ ¬ noRowV shI (nI J) = 0) (fun (u : Unit) (q : Nat) => xW E ad iv ch rd tp rf (hdI shI aqI) nw tr gr dy im ++ (itsW (itF E aqI shI soI szI kmI bmI RI) ++ ([(q, .inr (6, [.null, .null, .null, .null, .null, .int 0, .int (noRowV shI (nI J))]))]))) := by
  refine XtR.of (by decide +kernel) (Nat.le_of_ble_eq_true rfl) (by first | exact Or.inl ⟨_, rfl⟩ | exact Or.inr ⟨_, rfl⟩) ?_
  intro pR eR sR mR aR bR tR cR AR ls QR hxR hbR hmlR hts hown hlk hnm hA hK hI hl hret hthr
  have hl : lv_has ls 3 [(0, .ref (ad 11)), (1, .int (nI J))] := hl
  refine lv_aload_n hxR hbR dX0_rowIn_0 rfl (lv_at hl 0 rfl) ?_
  refine r_get hxR hbR hts hown hK hI okX0 (ci := 0) rfl 8 (he_l xW_o) 7 (by decide) q271 rfl (v := .ref (ad 7)) rfl dX0_rowIn_1 ?_
  refine lv_iload_n hxR hbR dX0_rowIn_4 rfl (lv_at hl 1 rfl) ?_
  refine r_aald hxR hbR hK hI 11 7 (r := ad (20 + J)) rfl rfl (n := 8) (J := J) (he_l rfl) hJ (by decide) rfl dX0_rowIn_5 ?_
  rcases hsh J hJ with c_h | c_h | c_h
  · skip
    refine r_get hxR hbR hts hown hK hI okX4 (ci := 4) rfl J (he_l (xW_s J hJ)) 0 (by decide) q258 rfl (v := .null) (congrArg (fun z => some (va_rf z)) (hdI_0 (by rw [c_h]; decide) (by rw [c_h]; decide))) dX0_rowIn_6 ?_
    refine lv_astore_nN (lv' := [(2, .null), (0, .ref (ad 11)), (1, .int (nI J))]) hxR hbR dX0_rowIn_9 rfl hl (by decide) rfl (fun ls hl => ?_)
    refine lv_aload_nN hxR hbR dX0_rowIn_10 rfl (lv_at hl 0 rfl) ?_
    refine lv_instN hxR hbR dX0_rowIn_11 ?_
    refine lv_if_eq (tgt := 27) hxR hbR dX0_rowIn_14 (by decide) (fun _ => ?_) (fun c => absurd c (by decide))
    refine lv_aload_nN hxR hbR dX0_rowIn_27 rfl (lv_at hl 0 rfl) ?_
    refine lv_ifnonnullN hxR hbR dX0_rowIn_28 ?_
    refine r_new (fs := [.null, .null, .null, .null, .null, .int 0, .int 0]) hxR hbR hts hown hA hK hI okX6 (ci := 6) rfl q410 q435 q94 (by decide +kernel) (Nat.le_of_ble_eq_true rfl) (Nat.le_of_ble_eq_true rfl) dX0_rowIn_31 (fun q_31 H hI => ?_)
    have hI := wI_w app2.symm hI
    have hI : wI E AR sR H _ (xW E ad iv ch rd tp rf (hdI shI aqI) nw tr gr dy im ++ (itsW (itF E aqI shI soI szI kmI bmI RI) ++ ([(q_31, .inr (6, [.null, .null, .null, .null, .null, .int 0, .int 0]))]))) := hI
    refine lv_dup hxR hbR dX0_rowIn_34 rfl ?_
    refine lv_bipush (v := (-4)) hxR hbR dX0_rowIn_35 (by decide) ?_
    have hI : wI E AR sR _ _ ([(q_31, .inr (6, [.null, .null, .null, .null, .null, .int 0, .int 0]))] ++ (xW E ad iv ch rd tp rf (hdI shI aqI) nw tr gr dy im ++ (itsW (itF E aqI shI soI szI kmI bmI RI)))) := wI_pick ([xW E ad iv ch rd tp rf (hdI shI aqI) nw tr gr dy im, itsW (itF E aqI shI soI szI kmI bmI RI), [(q_31, .inr (6, [.null, .null, .null, .null, .null, .int 0, .int 0]))]]) [2, 0, 1] 3 rfl (by decide) hI
    refine kIV (n := 1) (As := [.int (-4)]) (rest := [.ref q_31]) (fun w => w ++ (xW E ad iv ch rd tp rf (hdI shI aqI) nw tr gr dy im ++ (itsW (itF E aqI shI soI szI kmI bmI RI)))) hxR hbR hmlR hts hown hK hA hl.1 (isCtx.suf _) hI (c6_init l E q_31 (-4)) q445 q94 q443 q444 rfl (by decide +kernel) rfl (Nat.le_of_ble_eq_true rfl) (Nat.le_of_ble_eq_true rfl) ⟨Nat.le_of_ble_eq_true rfl, Nat.le_of_ble_eq_true rfl⟩ (Nat.le_of_ble_eq_true rfl) dX0_rowIn_37 (fun u H locs hp hI hz => ?_)
    have hI : wI E AR sR H locs ([(q_31, .inr (6, [.null, .null, .null, .null, .null, .int 0, .int (-4)]))] ++ (xW E ad iv ch rd tp rf (hdI shI aqI) nw tr gr dy im ++ (itsW (itF E aqI shI soI szI kmI bmI RI)))) := hI
    refine vx_athrow hxR hbR dX0_rowIn_40 ?_
    obtain ⟨ce_40, hq1, hq2, hq3⟩ := wI_thrown hK hI (ci := 6) (nm := "ThreeStrangers$Refused") rfl rfl (q0 := 0) (he_l rfl)
    have hI : wI E AR sR _ _ (xW E ad iv ch rd tp rf (hdI shI aqI) nw tr gr dy im ++ (itsW (itF E aqI shI soI szI kmI bmI RI) ++ ([(q_31, .inr (6, [.null, .null, .null, .null, .null, .int 0, .int (-4)]))]))) := wI_pick ([[(q_31, .inr (6, [.null, .null, .null, .null, .null, .int 0, .int (-4)]))], xW E ad iv ch rd tp rf (hdI shI aqI) nw tr gr dy im, itsW (itF E aqI shI soI szI kmI bmI RI)]) [1, 2, 0] 3 rfl (by decide) hI
    have hI := wI_w (ws' := xW E ad iv ch rd tp rf (hdI shI aqI) nw tr gr dy im ++ (itsW (itF E aqI shI soI szI kmI bmI RI) ++ ([(q_31, .inr (6, [.null, .null, .null, .null, .null, .int 0, .int (noRowV shI (nI J))]))]))) (by rw [show noRowV shI (nI J) = (-4) from (norow_0 hJ c_h)]) hI
    exact hthr () _ _ _ _ _ _ _ _ _ _ hq1 hq2 hq3 hI ⟨rfl, (by rw [(norow_0 hJ c_h)]; decide)⟩ (by omega) (by omega)
  · skip
    refine r_get hxR hbR hts hown hK hI okX4 (ci := 4) rfl J (he_l (xW_s J hJ)) 0 (by decide) q258 rfl (v := .ref (aqI J)) (congrArg (fun z => some (va_rf z)) (hdI_1 c_h)) dX0_rowIn_6 ?_
    have hI : wI E AR sR _ _ (itsW (itF E aqI shI soI szI kmI bmI RI) ++ (xW E ad iv ch rd tp rf (hdI shI aqI) nw tr gr dy im)) := wI_pick ([xW E ad iv ch rd tp rf (hdI shI aqI) nw tr gr dy im, itsW (itF E aqI shI soI szI kmI bmI RI)]) [1, 0] 2 rfl (by decide) hI
    obtain ⟨zo, hzo, hzo9⟩ := hso J hJ
    obtain ⟨zn, hzn, hzn9⟩ := hsz J hJ
    have hI := its_out (f := itF E aqI shI soI szI kmI bmI RI) hJ (itF_row c_h hzo9 hzn9 (by omega) (by omega)) hI
    have hI : wI E AR sR _ _ (rowW E (aqI J) zo zn (RI J) ++ (itsX (itF E aqI shI soI szI kmI bmI RI) J ++ (xW E ad iv ch rd tp rf (hdI shI aqI) nw tr gr dy im))) := hI
    have hI : wI E AR sR _ _ (xW E ad iv ch rd tp rf (hdI shI aqI) nw tr gr dy im ++ (rowW E (aqI J) zo zn (RI J) ++ (itsX (itF E aqI shI soI szI kmI bmI RI) J))) := wI_pick ([rowW E (aqI J) zo zn (RI J), itsX (itF E aqI shI soI szI kmI bmI RI) J, xW E ad iv ch rd tp rf (hdI shI aqI) nw tr gr dy im]) [2, 0, 1] 3 rfl (by decide) hI
    refine lv_astore_n (lv' := [(2, .ref (aqI J)), (0, .ref (ad 11)), (1, .int (nI J))]) hxR hbR dX0_rowIn_9 rfl hl (by decide) rfl (fun ls hl => ?_)
    refine lv_aload_n hxR hbR dX0_rowIn_10 rfl (lv_at hl 0 rfl) ?_
    refine r_instF hxR hbR hts hown q434 (va_Nc.iA (iA.no hK.xw (row_ncM hzo))) (row_isA hK hI (q0 := (14 + 0)) hzo (he_r (Nat.le_of_ble_eq_true rfl) (Nat.le_of_ble_eq_true rfl) (he_l rfl))) dX0_rowIn_11 ?_
    refine lv_if_eq (tgt := 27) hxR hbR dX0_rowIn_14 (by decide) (fun _ => ?_) (fun c => absurd c (by decide))
    refine lv_aload_n hxR hbR dX0_rowIn_27 rfl (lv_at hl 0 rfl) ?_
    refine lv_ifnonnull (tgt := 41) hxR hbR dX0_rowIn_28 (by decide) ?_
    have hI : wI E AR sR _ _ (rowW E (aqI J) zo zn (RI J) ++ (itsX (itF E aqI shI soI szI kmI bmI RI) J ++ (xW E ad iv ch rd tp rf (hdI shI aqI) nw tr gr dy im))) := wI_pick ([xW E ad iv ch rd tp rf (hdI shI aqI) nw tr gr dy im, rowW E (aqI J) zo zn (RI J), itsX (itF E aqI shI soI szI kmI bmI RI) J]) [1, 2, 0] 3 rfl (by decide) hI
    have hI := its_in (f := itF E aqI shI soI szI kmI bmI RI) (g := itF E aqI shI soI szI kmI bmI RI) hJ (fun _ _ => rfl) (itF_row c_h hzo9 hzn9 (by omega) (by omega)) hI
    have hI : wI E AR sR _ _ (itsW (itF E aqI shI soI szI kmI bmI RI) ++ (xW E ad iv ch rd tp rf (hdI shI aqI) nw tr gr dy im)) := hI
    have hI : wI E AR sR _ _ (xW E ad iv ch rd tp rf (hdI shI aqI) nw tr gr dy im ++ (itsW (itF E aqI shI soI szI kmI bmI RI))) := wI_pick ([itsW (itF E aqI shI soI szI kmI bmI RI), xW E ad iv ch rd tp rf (hdI shI aqI) nw tr gr dy im]) [1, 0] 2 rfl (by decide) hI
    refine lv_aload_n hxR hbR dX0_rowIn_41 rfl (lv_at hl 0 rfl) ?_
    exact hret () _ _ _ _ _ _ _ dX0_rowIn_42 hI ⟨rfl, c_h⟩ (by omega) (by omega)
  · skip
    refine r_get hxR hbR hts hown hK hI okX4 (ci := 4) rfl J (he_l (xW_s J hJ)) 0 (by decide) q258 rfl (v := .ref (aqI J)) (congrArg (fun z => some (va_rf z)) (hdI_2 c_h)) dX0_rowIn_6 ?_
    have hI : wI E AR sR _ _ (itsW (itF E aqI shI soI szI kmI bmI RI) ++ (xW E ad iv ch rd tp rf (hdI shI aqI) nw tr gr dy im)) := wI_pick ([xW E ad iv ch rd tp rf (hdI shI aqI) nw tr gr dy im, itsW (itF E aqI shI soI szI kmI bmI RI)]) [1, 0] 2 rfl (by decide) hI
    obtain ⟨zk, hk1m, hk5m, hzk9⟩ := hkm J hJ c_h
    obtain ⟨zb, hzb, hzb9⟩ := hbm J hJ
    have hI := its_out (f := itF E aqI shI soI szI kmI bmI RI) hJ (itF_man c_h hzk9 (by omega)) hI
    have hI : wI E AR sR _ _ (manW E (aqI J) zk (bmI J) ++ (itsX (itF E aqI shI soI szI kmI bmI RI) J ++ (xW E ad iv ch rd tp rf (hdI shI aqI) nw tr gr dy im))) := hI
    have hI : wI E AR sR _ _ (xW E ad iv ch rd tp rf (hdI shI aqI) nw tr gr dy im ++ (manW E (aqI J) zk (bmI J) ++ (itsX (itF E aqI shI soI szI kmI bmI RI) J))) := wI_pick ([manW E (aqI J) zk (bmI J), itsX (itF E aqI shI soI szI kmI bmI RI) J, xW E ad iv ch rd tp rf (hdI shI aqI) nw tr gr dy im]) [2, 0, 1] 3 rfl (by decide) hI
    refine lv_astore_n (lv' := [(2, .ref (aqI J)), (0, .ref (ad 11)), (1, .int (nI J))]) hxR hbR dX0_rowIn_9 rfl hl (by decide) rfl (fun ls hl => ?_)
    refine lv_aload_n hxR hbR dX0_rowIn_10 rfl (lv_at hl 0 rfl) ?_
    refine r_instT hxR hbR hts hown q434 (man_iA hK hk1m hk5m) (man_isA hK hI (q0 := (14 + 0)) hk1m hk5m (he_r (Nat.le_of_ble_eq_true rfl) (Nat.le_of_ble_eq_true rfl) (he_l rfl))) dX0_rowIn_11 ?_
    refine lv_if_eq (tgt := 27) hxR hbR dX0_rowIn_14 (by decide) (fun c => absurd c (by decide)) (fun _ => ?_)
    have hI : wI E AR sR _ _ (manW E (aqI J) zk (bmI J) ++ (itsX (itF E aqI shI soI szI kmI bmI RI) J ++ (xW E ad iv ch rd tp rf (hdI shI aqI) nw tr gr dy im))) := wI_pick ([xW E ad iv ch rd tp rf (hdI shI aqI) nw tr gr dy im, manW E (aqI J) zk (bmI J), itsX (itF E aqI shI soI szI kmI bmI RI) J]) [1, 2, 0] 3 rfl (by decide) hI
    have hI := its_in (f := itF E aqI shI soI szI kmI bmI RI) (g := itF E aqI shI soI szI kmI bmI RI) hJ (fun _ _ => rfl) (itF_man c_h hzk9 (by omega)) hI
    have hI : wI E AR sR _ _ (itsW (itF E aqI shI soI szI kmI bmI RI) ++ (xW E ad iv ch rd tp rf (hdI shI aqI) nw tr gr dy im)) := hI
    have hI : wI E AR sR _ _ (xW E ad iv ch rd tp rf (hdI shI aqI) nw tr gr dy im ++ (itsW (itF E aqI shI soI szI kmI bmI RI))) := wI_pick ([itsW (itF E aqI shI soI szI kmI bmI RI), xW E ad iv ch rd tp rf (hdI shI aqI) nw tr gr dy im]) [1, 0] 2 rfl (by decide) hI
    refine r_new (fs := [.null, .null, .null, .null, .null, .int 0, .int 0]) hxR hbR hts hown hA hK hI okX6 (ci := 6) rfl q410 q435 q94 (by decide +kernel) (Nat.le_of_ble_eq_true rfl) (Nat.le_of_ble_eq_true rfl) dX0_rowIn_17 (fun q_17 H hI => ?_)
    have hI := wI_w app2.symm hI
    have hI : wI E AR sR H _ (xW E ad iv ch rd tp rf (hdI shI aqI) nw tr gr dy im ++ (itsW (itF E aqI shI soI szI kmI bmI RI) ++ ([(q_17, .inr (6, [.null, .null, .null, .null, .null, .int 0, .int 0]))]))) := hI
    refine lv_dup hxR hbR dX0_rowIn_20 rfl ?_
    refine lv_bipush (v := (-3)) hxR hbR dX0_rowIn_21 (by decide) ?_
    have hI : wI E AR sR _ _ ([(q_17, .inr (6, [.null, .null, .null, .null, .null, .int 0, .int 0]))] ++ (xW E ad iv ch rd tp rf (hdI shI aqI) nw tr gr dy im ++ (itsW (itF E aqI shI soI szI kmI bmI RI)))) := wI_pick ([xW E ad iv ch rd tp rf (hdI shI aqI) nw tr gr dy im, itsW (itF E aqI shI soI szI kmI bmI RI), [(q_17, .inr (6, [.null, .null, .null, .null, .null, .int 0, .int 0]))]]) [2, 0, 1] 3 rfl (by decide) hI
    refine kIV (n := 1) (As := [.int (-3)]) (rest := [.ref q_17]) (fun w => w ++ (xW E ad iv ch rd tp rf (hdI shI aqI) nw tr gr dy im ++ (itsW (itF E aqI shI soI szI kmI bmI RI)))) hxR hbR hmlR hts hown hK hA hl.1 (isCtx.suf _) hI (c6_init l E q_17 (-3)) q445 q94 q443 q444 rfl (by decide +kernel) rfl (Nat.le_of_ble_eq_true rfl) (Nat.le_of_ble_eq_true rfl) ⟨Nat.le_of_ble_eq_true rfl, Nat.le_of_ble_eq_true rfl⟩ (Nat.le_of_ble_eq_true rfl) dX0_rowIn_23 (fun u H locs hp hI hz => ?_)
    have hI : wI E AR sR H locs ([(q_17, .inr (6, [.null, .null, .null, .null, .null, .int 0, .int (-3)]))] ++ (xW E ad iv ch rd tp rf (hdI shI aqI) nw tr gr dy im ++ (itsW (itF E aqI shI soI szI kmI bmI RI)))) := hI
    refine vx_athrow hxR hbR dX0_rowIn_26 ?_
    obtain ⟨ce_26, hq1, hq2, hq3⟩ := wI_thrown hK hI (ci := 6) (nm := "ThreeStrangers$Refused") rfl rfl (q0 := 0) (he_l rfl)
    have hI : wI E AR sR _ _ (xW E ad iv ch rd tp rf (hdI shI aqI) nw tr gr dy im ++ (itsW (itF E aqI shI soI szI kmI bmI RI) ++ ([(q_17, .inr (6, [.null, .null, .null, .null, .null, .int 0, .int (-3)]))]))) := wI_pick ([[(q_17, .inr (6, [.null, .null, .null, .null, .null, .int 0, .int (-3)]))], xW E ad iv ch rd tp rf (hdI shI aqI) nw tr gr dy im, itsW (itF E aqI shI soI szI kmI bmI RI)]) [1, 2, 0] 3 rfl (by decide) hI
    have hI := wI_w (ws' := xW E ad iv ch rd tp rf (hdI shI aqI) nw tr gr dy im ++ (itsW (itF E aqI shI soI szI kmI bmI RI) ++ ([(q_17, .inr (6, [.null, .null, .null, .null, .null, .int 0, .int (noRowV shI (nI J))]))]))) (by rw [show noRowV shI (nI J) = (-3) from (norow_2 hJ c_h)]) hI
    exact hthr () _ _ _ _ _ _ _ _ _ _ hq1 hq2 hq3 hI ⟨rfl, (by rw [(norow_2 hJ c_h)]; decide)⟩ (by omega) (by omega)

theorem c0_coachmanIn (l : Launch) (E : En) (ad : Nat → Nat) (iv : Nat → Int32) (ch : Nat → Int32) (rd : Nat → Int32) (tp : Nat → Int32) (rf : Nat → Int32) (nw : Nat) (tr : Nat) (gr : Nat) (dy : Nat) (im : Option Nat) (aqI : Nat → Nat) (shI : Nat → Int32) (soI : Nat → Int32) (szI : Nat → Int32) (kmI : Nat → Int32) (bmI : Nat → Int32) (RI : Nat → Nat → Int64) (m x : Int32) (hlt : l.stackTraces = false) (hsh : ∀ P, P < 8 → shI P = 0 ∨ shI P = 1 ∨ shI P = 2) (hso : ∀ P, P < 8 → ∃ k, k ≤ 4 ∧ soI P = nI k) (hsz : ∀ P, P < 8 → ∃ k, k ≤ 40 ∧ szI P = nI k) (hkm : ∀ P, P < 8 → shI P = 2 → ∃ k, 1 ≤ k ∧ k ≤ 5 ∧ kmI P = nI k) (hbm : ∀ P, P < 8 → ∃ k, k < 100 ∧ bmI P = nI k) : XtR l E yX0_coachmanIn (ws_ yX0_coachmanIn cX0_coachmanIn 4 (some (FieldType.object "ThreeStrangers$Coachman"))) 5 1 7 [.ref (ad 11), .int m, .int x] (xW E ad iv ch rd tp rf (hdI shI aqI) nw tr gr dy im ++ (itsW (itF E aqI shI soI szI kmI bmI RI))) (fun (r : Nat) (u : Unit) => r = aqI x.toNatClampNeg ∧ coaV shI m x = 0) (fun (u : Unit) (q : Nat) => xW E ad iv ch rd tp rf (hdI shI aqI) nw tr gr dy im ++ (itsW (itF E aqI shI soI szI kmI bmI RI))) (fun (En : String) (u : Unit) => En = "ThreeStrangers$Refused" ∧ ¬ coaV shI m x = 0) (fun (u : Unit) (q : Nat) => xW E ad iv ch rd tp rf (hdI shI aqI) nw tr gr dy im ++ (itsW (itF E aqI shI soI szI kmI bmI RI) ++ ([(q, .inr (6, [.null, .null, .null, .null, .null, .int 0, .int (coaV shI m x)]))]))) := by
  refine XtR.of (by decide +kernel) (Nat.le_of_ble_eq_true rfl) (by first | exact Or.inl ⟨_, rfl⟩ | exact Or.inr ⟨_, rfl⟩) ?_
  intro pR eR sR mR aR bR tR cR AR ls QR hxR hbR hmlR hts hown hlk hnm hA hK hI hl hret hthr
  have hl : lv_has ls 4 [(0, .ref (ad 11)), (1, .int m), (2, .int x)] := hl
  refine lv_iload_n hxR hbR dX0_coachmanIn_0 rfl (lv_at hl 1 rfl) ?_
  refine lv_if_eq (tgt := 11) hxR hbR dX0_coachmanIn_1 (by decide) (fun c_1 => ?_) (fun c_1 => ?_)
  · skip
    have i_1 : m.toInt = 0 := by have zz := i_eq.mp c_1; exact zz
    refine r_new (fs := [.null, .null, .null, .null, .null, .int 0, .int 0]) hxR hbR hts hown hA hK hI okX6 (ci := 6) rfl q410 q435 q94 (by decide +kernel) (Nat.le_of_ble_eq_true rfl) (Nat.le_of_ble_eq_true rfl) dX0_coachmanIn_11 (fun q_11 H hI => ?_)
    have hI := wI_w app2.symm hI
    have hI : wI E AR sR H _ (xW E ad iv ch rd tp rf (hdI shI aqI) nw tr gr dy im ++ (itsW (itF E aqI shI soI szI kmI bmI RI) ++ ([(q_11, .inr (6, [.null, .null, .null, .null, .null, .int 0, .int 0]))]))) := hI
    refine lv_dup hxR hbR dX0_coachmanIn_14 rfl ?_
    refine lv_bipush (v := (-2)) hxR hbR dX0_coachmanIn_15 (by decide) ?_
    have hI : wI E AR sR _ _ ([(q_11, .inr (6, [.null, .null, .null, .null, .null, .int 0, .int 0]))] ++ (xW E ad iv ch rd tp rf (hdI shI aqI) nw tr gr dy im ++ (itsW (itF E aqI shI soI szI kmI bmI RI)))) := wI_pick ([xW E ad iv ch rd tp rf (hdI shI aqI) nw tr gr dy im, itsW (itF E aqI shI soI szI kmI bmI RI), [(q_11, .inr (6, [.null, .null, .null, .null, .null, .int 0, .int 0]))]]) [2, 0, 1] 3 rfl (by decide) hI
    refine kIV (n := 1) (As := [.int (-2)]) (rest := [.ref q_11]) (fun w => w ++ (xW E ad iv ch rd tp rf (hdI shI aqI) nw tr gr dy im ++ (itsW (itF E aqI shI soI szI kmI bmI RI)))) hxR hbR hmlR hts hown hK hA hl.1 (isCtx.suf _) hI (c6_init l E q_11 (-2)) q445 q94 q443 q444 rfl (by decide +kernel) rfl (Nat.le_of_ble_eq_true rfl) (Nat.le_of_ble_eq_true rfl) ⟨Nat.le_of_ble_eq_true rfl, Nat.le_of_ble_eq_true rfl⟩ (Nat.le_of_ble_eq_true rfl) dX0_coachmanIn_17 (fun u H locs hp hI hz => ?_)
    have hI : wI E AR sR H locs ([(q_11, .inr (6, [.null, .null, .null, .null, .null, .int 0, .int (-2)]))] ++ (xW E ad iv ch rd tp rf (hdI shI aqI) nw tr gr dy im ++ (itsW (itF E aqI shI soI szI kmI bmI RI)))) := hI
    refine vx_athrow hxR hbR dX0_coachmanIn_20 ?_
    obtain ⟨ce_20, hq1, hq2, hq3⟩ := wI_thrown hK hI (ci := 6) (nm := "ThreeStrangers$Refused") rfl rfl (q0 := 0) (he_l rfl)
    have hI : wI E AR sR _ _ (xW E ad iv ch rd tp rf (hdI shI aqI) nw tr gr dy im ++ (itsW (itF E aqI shI soI szI kmI bmI RI) ++ ([(q_11, .inr (6, [.null, .null, .null, .null, .null, .int 0, .int (-2)]))]))) := wI_pick ([[(q_11, .inr (6, [.null, .null, .null, .null, .null, .int 0, .int (-2)]))], xW E ad iv ch rd tp rf (hdI shI aqI) nw tr gr dy im, itsW (itF E aqI shI soI szI kmI bmI RI)]) [1, 2, 0] 3 rfl (by decide) hI
    have hI := wI_w (ws' := xW E ad iv ch rd tp rf (hdI shI aqI) nw tr gr dy im ++ (itsW (itF E aqI shI soI szI kmI bmI RI) ++ ([(q_11, .inr (6, [.null, .null, .null, .null, .null, .int 0, .int (coaV shI m x)]))]))) (by rw [show coaV shI m x = (-2) from (coa_m c_1)]) hI
    exact hthr () _ _ _ _ _ _ _ _ _ _ hq1 hq2 hq3 hI ⟨rfl, (by rw [coa_m c_1]; decide)⟩ (by omega) (by omega)
  · skip
    have i_1 : ¬ (m.toInt = 0) := by have zz := mt i_eq.mpr c_1; exact zz
    refine lv_iload_n hxR hbR dX0_coachmanIn_4 rfl (lv_at hl 2 rfl) ?_
    refine kSI (n := 1) (As := [.int x]) (rest := []) (fun w => w ++ (xW E ad iv ch rd tp rf (hdI shI aqI) nw tr gr dy im ++ (itsW (itF E aqI shI soI szI kmI bmI RI)))) hxR hbR hmlR hts hown hK hA hl.1 (isCtx.suf _) hI (c0_isShelf l E  x ) (lw_S q390 q391 q81 q392) (by decide +kernel) rfl (Nat.le_of_ble_eq_true rfl) (Nat.le_of_ble_eq_true rfl) ⟨Nat.le_of_ble_eq_true rfl, Nat.le_of_ble_eq_true rfl⟩ (Nat.le_of_ble_eq_true rfl) dX0_coachmanIn_5 (fun r_5 u H locs hp hI hz => ?_)
    have hI : wI E AR sR H locs (xW E ad iv ch rd tp rf (hdI shI aqI) nw tr gr dy im ++ (itsW (itF E aqI shI soI szI kmI bmI RI))) := hI
    have hp : r_5 = b2i (decide (0 ≤ x.toInt ∧ x.toInt ≤ 7)) := hp
    have hr_5 := hp
    rcases b2i_cases hr_5 with ⟨c_5, rfl⟩ | ⟨c_5, rfl⟩
    · skip
      have c_5 : 0 ≤ Int32.toInt x ∧ Int32.toInt x ≤ 7 := of_decide_eq_true c_5
      obtain ⟨P, hP, rfl⟩ := nat7 c_5
      have tP : (nI P).toInt = (P : Int) := nI_toInt (by omega)
      refine lv_if_ne (tgt := 21) hxR hbR dX0_coachmanIn_8 (by decide) (fun _ => ?_) (fun c => absurd c (by decide))
      refine lv_aload_n hxR hbR dX0_coachmanIn_21 rfl (lv_at hl 0 rfl) ?_
      refine r_get hxR hbR hts hown hK hI okX0 (ci := 0) rfl 8 (he_l xW_o) 7 (by decide) q271 rfl (v := .ref (ad 7)) rfl dX0_coachmanIn_22 ?_
      refine lv_iload_n hxR hbR dX0_coachmanIn_25 rfl (lv_at hl 2 rfl) ?_
      refine r_aald hxR hbR hK hI 11 7 (r := ad (20 + P)) rfl rfl (n := 8) (J := P) (he_l rfl) (by omega) (by decide) rfl dX0_coachmanIn_26 ?_
      rcases hsh P (by omega) with c_h | c_h | c_h
      · skip
        refine r_get hxR hbR hts hown hK hI okX4 (ci := 4) rfl P (he_l (xW_s P (by omega))) 0 (by decide) q258 rfl (v := .null) (congrArg (fun z => some (va_rf z)) (hdI_0 (by rw [c_h]; decide) (by rw [c_h]; decide))) dX0_coachmanIn_27 ?_
        refine lv_astore_nN (lv' := [(3, .null), (0, .ref (ad 11)), (1, .int m), (2, .int (nI P))]) hxR hbR dX0_coachmanIn_30 rfl hl (by decide) rfl (fun ls hl => ?_)
        refine lv_aload_nN hxR hbR dX0_coachmanIn_31 rfl (lv_at hl 0 rfl) ?_
        refine lv_ifnonnullN hxR hbR dX0_coachmanIn_32 ?_
        refine r_new (fs := [.null, .null, .null, .null, .null, .int 0, .int 0]) hxR hbR hts hown hA hK hI okX6 (ci := 6) rfl q410 q435 q94 (by decide +kernel) (Nat.le_of_ble_eq_true rfl) (Nat.le_of_ble_eq_true rfl) dX0_coachmanIn_35 (fun q_35 H hI => ?_)
        have hI := wI_w app2.symm hI
        have hI : wI E AR sR H _ (xW E ad iv ch rd tp rf (hdI shI aqI) nw tr gr dy im ++ (itsW (itF E aqI shI soI szI kmI bmI RI) ++ ([(q_35, .inr (6, [.null, .null, .null, .null, .null, .int 0, .int 0]))]))) := hI
        refine lv_dup hxR hbR dX0_coachmanIn_38 rfl ?_
        refine lv_bipush (v := (-4)) hxR hbR dX0_coachmanIn_39 (by decide) ?_
        have hI : wI E AR sR _ _ ([(q_35, .inr (6, [.null, .null, .null, .null, .null, .int 0, .int 0]))] ++ (xW E ad iv ch rd tp rf (hdI shI aqI) nw tr gr dy im ++ (itsW (itF E aqI shI soI szI kmI bmI RI)))) := wI_pick ([xW E ad iv ch rd tp rf (hdI shI aqI) nw tr gr dy im, itsW (itF E aqI shI soI szI kmI bmI RI), [(q_35, .inr (6, [.null, .null, .null, .null, .null, .int 0, .int 0]))]]) [2, 0, 1] 3 rfl (by decide) hI
        refine kIV (n := 1) (As := [.int (-4)]) (rest := [.ref q_35]) (fun w => w ++ (xW E ad iv ch rd tp rf (hdI shI aqI) nw tr gr dy im ++ (itsW (itF E aqI shI soI szI kmI bmI RI)))) hxR hbR hmlR hts hown hK hA hl.1 (isCtx.suf _) hI (c6_init l E q_35 (-4)) q445 q94 q443 q444 rfl (by decide +kernel) rfl (Nat.le_of_ble_eq_true rfl) (Nat.le_of_ble_eq_true rfl) ⟨Nat.le_of_ble_eq_true rfl, Nat.le_of_ble_eq_true rfl⟩ (Nat.le_of_ble_eq_true rfl) dX0_coachmanIn_41 (fun u H locs hp hI hz => ?_)
        have hI : wI E AR sR H locs ([(q_35, .inr (6, [.null, .null, .null, .null, .null, .int 0, .int (-4)]))] ++ (xW E ad iv ch rd tp rf (hdI shI aqI) nw tr gr dy im ++ (itsW (itF E aqI shI soI szI kmI bmI RI)))) := hI
        refine vx_athrow hxR hbR dX0_coachmanIn_44 ?_
        obtain ⟨ce_44, hq1, hq2, hq3⟩ := wI_thrown hK hI (ci := 6) (nm := "ThreeStrangers$Refused") rfl rfl (q0 := 0) (he_l rfl)
        have hI : wI E AR sR _ _ (xW E ad iv ch rd tp rf (hdI shI aqI) nw tr gr dy im ++ (itsW (itF E aqI shI soI szI kmI bmI RI) ++ ([(q_35, .inr (6, [.null, .null, .null, .null, .null, .int 0, .int (-4)]))]))) := wI_pick ([[(q_35, .inr (6, [.null, .null, .null, .null, .null, .int 0, .int (-4)]))], xW E ad iv ch rd tp rf (hdI shI aqI) nw tr gr dy im, itsW (itF E aqI shI soI szI kmI bmI RI)]) [1, 2, 0] 3 rfl (by decide) hI
        have hI := wI_w (ws' := xW E ad iv ch rd tp rf (hdI shI aqI) nw tr gr dy im ++ (itsW (itF E aqI shI soI szI kmI bmI RI) ++ ([(q_35, .inr (6, [.null, .null, .null, .null, .null, .int 0, .int (coaV shI m (nI P))]))]))) (by rw [show coaV shI m (nI P) = (-4) from ((coa_n c_1).trans (noman_0 hP c_h))]) hI
        exact hthr () _ _ _ _ _ _ _ _ _ _ hq1 hq2 hq3 hI ⟨rfl, (by rw [((coa_n c_1).trans (noman_0 hP c_h))]; decide)⟩ (by omega) (by omega)
      · skip
        refine r_get hxR hbR hts hown hK hI okX4 (ci := 4) rfl P (he_l (xW_s P (by omega))) 0 (by decide) q258 rfl (v := .ref (aqI P)) (congrArg (fun z => some (va_rf z)) (hdI_1 c_h)) dX0_coachmanIn_27 ?_
        have hI : wI E AR sR _ _ (itsW (itF E aqI shI soI szI kmI bmI RI) ++ (xW E ad iv ch rd tp rf (hdI shI aqI) nw tr gr dy im)) := wI_pick ([xW E ad iv ch rd tp rf (hdI shI aqI) nw tr gr dy im, itsW (itF E aqI shI soI szI kmI bmI RI)]) [1, 0] 2 rfl (by decide) hI
        obtain ⟨zo, hzo, hzo9⟩ := hso P (by omega)
        obtain ⟨zn, hzn, hzn9⟩ := hsz P (by omega)
        have hI := its_out (f := itF E aqI shI soI szI kmI bmI RI) (by omega) (itF_row c_h hzo9 hzn9 (by omega) (by omega)) hI
        have hI : wI E AR sR _ _ (rowW E (aqI P) zo zn (RI P) ++ (itsX (itF E aqI shI soI szI kmI bmI RI) P ++ (xW E ad iv ch rd tp rf (hdI shI aqI) nw tr gr dy im))) := hI
        have hI : wI E AR sR _ _ (xW E ad iv ch rd tp rf (hdI shI aqI) nw tr gr dy im ++ (rowW E (aqI P) zo zn (RI P) ++ (itsX (itF E aqI shI soI szI kmI bmI RI) P))) := wI_pick ([rowW E (aqI P) zo zn (RI P), itsX (itF E aqI shI soI szI kmI bmI RI) P, xW E ad iv ch rd tp rf (hdI shI aqI) nw tr gr dy im]) [2, 0, 1] 3 rfl (by decide) hI
        refine lv_astore_n (lv' := [(3, .ref (aqI P)), (0, .ref (ad 11)), (1, .int m), (2, .int (nI P))]) hxR hbR dX0_coachmanIn_30 rfl hl (by decide) rfl (fun ls hl => ?_)
        refine lv_aload_n hxR hbR dX0_coachmanIn_31 rfl (lv_at hl 0 rfl) ?_
        refine lv_ifnonnull (tgt := 45) hxR hbR dX0_coachmanIn_32 (by decide) ?_
        refine lv_aload_n hxR hbR dX0_coachmanIn_45 rfl (lv_at hl 0 rfl) ?_
        refine r_instF hxR hbR hts hown q434 (va_Nc.iA (iA.no hK.xw (row_ncM hzo))) (row_isA hK hI (q0 := (14 + 0)) hzo (he_r (Nat.le_of_ble_eq_true rfl) (Nat.le_of_ble_eq_true rfl) (he_l rfl))) dX0_coachmanIn_46 ?_
        refine lv_if_ne (tgt := 62) hxR hbR dX0_coachmanIn_49 (by decide) (fun c => absurd c (by decide)) (fun _ => ?_)
        have hI : wI E AR sR _ _ (rowW E (aqI P) zo zn (RI P) ++ (itsX (itF E aqI shI soI szI kmI bmI RI) P ++ (xW E ad iv ch rd tp rf (hdI shI aqI) nw tr gr dy im))) := wI_pick ([xW E ad iv ch rd tp rf (hdI shI aqI) nw tr gr dy im, rowW E (aqI P) zo zn (RI P), itsX (itF E aqI shI soI szI kmI bmI RI) P]) [1, 2, 0] 3 rfl (by decide) hI
        have hI := its_in (f := itF E aqI shI soI szI kmI bmI RI) (g := itF E aqI shI soI szI kmI bmI RI) (by omega) (fun _ _ => rfl) (itF_row c_h hzo9 hzn9 (by omega) (by omega)) hI
        have hI : wI E AR sR _ _ (itsW (itF E aqI shI soI szI kmI bmI RI) ++ (xW E ad iv ch rd tp rf (hdI shI aqI) nw tr gr dy im)) := hI
        have hI : wI E AR sR _ _ (xW E ad iv ch rd tp rf (hdI shI aqI) nw tr gr dy im ++ (itsW (itF E aqI shI soI szI kmI bmI RI))) := wI_pick ([itsW (itF E aqI shI soI szI kmI bmI RI), xW E ad iv ch rd tp rf (hdI shI aqI) nw tr gr dy im]) [1, 0] 2 rfl (by decide) hI
        refine r_new (fs := [.null, .null, .null, .null, .null, .int 0, .int 0]) hxR hbR hts hown hA hK hI okX6 (ci := 6) rfl q410 q435 q94 (by decide +kernel) (Nat.le_of_ble_eq_true rfl) (Nat.le_of_ble_eq_true rfl) dX0_coachmanIn_52 (fun q_52 H hI => ?_)
        have hI := wI_w app2.symm hI
        have hI : wI E AR sR H _ (xW E ad iv ch rd tp rf (hdI shI aqI) nw tr gr dy im ++ (itsW (itF E aqI shI soI szI kmI bmI RI) ++ ([(q_52, .inr (6, [.null, .null, .null, .null, .null, .int 0, .int 0]))]))) := hI
        refine lv_dup hxR hbR dX0_coachmanIn_55 rfl ?_
        refine lv_bipush (v := (-3)) hxR hbR dX0_coachmanIn_56 (by decide) ?_
        have hI : wI E AR sR _ _ ([(q_52, .inr (6, [.null, .null, .null, .null, .null, .int 0, .int 0]))] ++ (xW E ad iv ch rd tp rf (hdI shI aqI) nw tr gr dy im ++ (itsW (itF E aqI shI soI szI kmI bmI RI)))) := wI_pick ([xW E ad iv ch rd tp rf (hdI shI aqI) nw tr gr dy im, itsW (itF E aqI shI soI szI kmI bmI RI), [(q_52, .inr (6, [.null, .null, .null, .null, .null, .int 0, .int 0]))]]) [2, 0, 1] 3 rfl (by decide) hI
        refine kIV (n := 1) (As := [.int (-3)]) (rest := [.ref q_52]) (fun w => w ++ (xW E ad iv ch rd tp rf (hdI shI aqI) nw tr gr dy im ++ (itsW (itF E aqI shI soI szI kmI bmI RI)))) hxR hbR hmlR hts hown hK hA hl.1 (isCtx.suf _) hI (c6_init l E q_52 (-3)) q445 q94 q443 q444 rfl (by decide +kernel) rfl (Nat.le_of_ble_eq_true rfl) (Nat.le_of_ble_eq_true rfl) ⟨Nat.le_of_ble_eq_true rfl, Nat.le_of_ble_eq_true rfl⟩ (Nat.le_of_ble_eq_true rfl) dX0_coachmanIn_58 (fun u H locs hp hI hz => ?_)
        have hI : wI E AR sR H locs ([(q_52, .inr (6, [.null, .null, .null, .null, .null, .int 0, .int (-3)]))] ++ (xW E ad iv ch rd tp rf (hdI shI aqI) nw tr gr dy im ++ (itsW (itF E aqI shI soI szI kmI bmI RI)))) := hI
        refine vx_athrow hxR hbR dX0_coachmanIn_61 ?_
        obtain ⟨ce_61, hq1, hq2, hq3⟩ := wI_thrown hK hI (ci := 6) (nm := "ThreeStrangers$Refused") rfl rfl (q0 := 0) (he_l rfl)
        have hI : wI E AR sR _ _ (xW E ad iv ch rd tp rf (hdI shI aqI) nw tr gr dy im ++ (itsW (itF E aqI shI soI szI kmI bmI RI) ++ ([(q_52, .inr (6, [.null, .null, .null, .null, .null, .int 0, .int (-3)]))]))) := wI_pick ([[(q_52, .inr (6, [.null, .null, .null, .null, .null, .int 0, .int (-3)]))], xW E ad iv ch rd tp rf (hdI shI aqI) nw tr gr dy im, itsW (itF E aqI shI soI szI kmI bmI RI)]) [1, 2, 0] 3 rfl (by decide) hI
        have hI := wI_w (ws' := xW E ad iv ch rd tp rf (hdI shI aqI) nw tr gr dy im ++ (itsW (itF E aqI shI soI szI kmI bmI RI) ++ ([(q_52, .inr (6, [.null, .null, .null, .null, .null, .int 0, .int (coaV shI m (nI P))]))]))) (by rw [show coaV shI m (nI P) = (-3) from ((coa_n c_1).trans (noman_1 hP c_h))]) hI
        exact hthr () _ _ _ _ _ _ _ _ _ _ hq1 hq2 hq3 hI ⟨rfl, (by rw [((coa_n c_1).trans (noman_1 hP c_h))]; decide)⟩ (by omega) (by omega)
      · skip
        refine r_get hxR hbR hts hown hK hI okX4 (ci := 4) rfl P (he_l (xW_s P (by omega))) 0 (by decide) q258 rfl (v := .ref (aqI P)) (congrArg (fun z => some (va_rf z)) (hdI_2 c_h)) dX0_coachmanIn_27 ?_
        have hI : wI E AR sR _ _ (itsW (itF E aqI shI soI szI kmI bmI RI) ++ (xW E ad iv ch rd tp rf (hdI shI aqI) nw tr gr dy im)) := wI_pick ([xW E ad iv ch rd tp rf (hdI shI aqI) nw tr gr dy im, itsW (itF E aqI shI soI szI kmI bmI RI)]) [1, 0] 2 rfl (by decide) hI
        obtain ⟨zk, hk1m, hk5m, hzk9⟩ := hkm P (by omega) c_h
        obtain ⟨zb, hzb, hzb9⟩ := hbm P (by omega)
        have hI := its_out (f := itF E aqI shI soI szI kmI bmI RI) (by omega) (itF_man c_h hzk9 (by omega)) hI
        have hI : wI E AR sR _ _ (manW E (aqI P) zk (bmI P) ++ (itsX (itF E aqI shI soI szI kmI bmI RI) P ++ (xW E ad iv ch rd tp rf (hdI shI aqI) nw tr gr dy im))) := hI
        have hI : wI E AR sR _ _ (xW E ad iv ch rd tp rf (hdI shI aqI) nw tr gr dy im ++ (manW E (aqI P) zk (bmI P) ++ (itsX (itF E aqI shI soI szI kmI bmI RI) P))) := wI_pick ([manW E (aqI P) zk (bmI P), itsX (itF E aqI shI soI szI kmI bmI RI) P, xW E ad iv ch rd tp rf (hdI shI aqI) nw tr gr dy im]) [2, 0, 1] 3 rfl (by decide) hI
        refine lv_astore_n (lv' := [(3, .ref (aqI P)), (0, .ref (ad 11)), (1, .int m), (2, .int (nI P))]) hxR hbR dX0_coachmanIn_30 rfl hl (by decide) rfl (fun ls hl => ?_)
        refine lv_aload_n hxR hbR dX0_coachmanIn_31 rfl (lv_at hl 0 rfl) ?_
        refine lv_ifnonnull (tgt := 45) hxR hbR dX0_coachmanIn_32 (by decide) ?_
        refine lv_aload_n hxR hbR dX0_coachmanIn_45 rfl (lv_at hl 0 rfl) ?_
        refine r_instT hxR hbR hts hown q434 (man_iA hK hk1m hk5m) (man_isA hK hI (q0 := (14 + 0)) hk1m hk5m (he_r (Nat.le_of_ble_eq_true rfl) (Nat.le_of_ble_eq_true rfl) (he_l rfl))) dX0_coachmanIn_46 ?_
        refine lv_if_ne (tgt := 62) hxR hbR dX0_coachmanIn_49 (by decide) (fun _ => ?_) (fun c => absurd c (by decide))
        refine lv_aload_n hxR hbR dX0_coachmanIn_62 rfl (lv_at hl 0 rfl) ?_
        refine r_castT hxR hbR hts hown q434 (man_iA hK hk1m hk5m) (man_isA hK hI (q0 := (14 + 0)) hk1m hk5m (he_r (Nat.le_of_ble_eq_true rfl) (Nat.le_of_ble_eq_true rfl) (he_l rfl))) dX0_coachmanIn_63 ?_
        have hI : wI E AR sR _ _ (manW E (aqI P) zk (bmI P) ++ (itsX (itF E aqI shI soI szI kmI bmI RI) P ++ (xW E ad iv ch rd tp rf (hdI shI aqI) nw tr gr dy im))) := wI_pick ([xW E ad iv ch rd tp rf (hdI shI aqI) nw tr gr dy im, manW E (aqI P) zk (bmI P), itsX (itF E aqI shI soI szI kmI bmI RI) P]) [1, 2, 0] 3 rfl (by decide) hI
        have hI := its_in (f := itF E aqI shI soI szI kmI bmI RI) (g := itF E aqI shI soI szI kmI bmI RI) (by omega) (fun _ _ => rfl) (itF_man c_h hzk9 (by omega)) hI
        have hI : wI E AR sR _ _ (itsW (itF E aqI shI soI szI kmI bmI RI) ++ (xW E ad iv ch rd tp rf (hdI shI aqI) nw tr gr dy im)) := hI
        have hI : wI E AR sR _ _ (xW E ad iv ch rd tp rf (hdI shI aqI) nw tr gr dy im ++ (itsW (itF E aqI shI soI szI kmI bmI RI))) := wI_pick ([itsW (itF E aqI shI soI szI kmI bmI RI), xW E ad iv ch rd tp rf (hdI shI aqI) nw tr gr dy im]) [1, 0] 2 rfl (by decide) hI
        exact hret () _ _ _ _ _ _ _ dX0_coachmanIn_66 hI ⟨congrArg aqI (nI_clamp (n := P) (by omega)).symm, (coa_n c_1).trans (noman_2 hP c_h)⟩ (by omega) (by omega)
    · skip
      have c_5 : ¬ (0 ≤ Int32.toInt x ∧ Int32.toInt x ≤ 7) := of_decide_eq_false c_5
      refine lv_if_ne (tgt := 21) hxR hbR dX0_coachmanIn_8 (by decide) (fun c => absurd c (by decide)) (fun _ => ?_)
      refine r_new (fs := [.null, .null, .null, .null, .null, .int 0, .int 0]) hxR hbR hts hown hA hK hI okX6 (ci := 6) rfl q410 q435 q94 (by decide +kernel) (Nat.le_of_ble_eq_true rfl) (Nat.le_of_ble_eq_true rfl) dX0_coachmanIn_11 (fun q_11 H hI => ?_)
      have hI := wI_w app2.symm hI
      have hI : wI E AR sR H _ (xW E ad iv ch rd tp rf (hdI shI aqI) nw tr gr dy im ++ (itsW (itF E aqI shI soI szI kmI bmI RI) ++ ([(q_11, .inr (6, [.null, .null, .null, .null, .null, .int 0, .int 0]))]))) := hI
      refine lv_dup hxR hbR dX0_coachmanIn_14 rfl ?_
      refine lv_bipush (v := (-2)) hxR hbR dX0_coachmanIn_15 (by decide) ?_
      have hI : wI E AR sR _ _ ([(q_11, .inr (6, [.null, .null, .null, .null, .null, .int 0, .int 0]))] ++ (xW E ad iv ch rd tp rf (hdI shI aqI) nw tr gr dy im ++ (itsW (itF E aqI shI soI szI kmI bmI RI)))) := wI_pick ([xW E ad iv ch rd tp rf (hdI shI aqI) nw tr gr dy im, itsW (itF E aqI shI soI szI kmI bmI RI), [(q_11, .inr (6, [.null, .null, .null, .null, .null, .int 0, .int 0]))]]) [2, 0, 1] 3 rfl (by decide) hI
      refine kIV (n := 1) (As := [.int (-2)]) (rest := [.ref q_11]) (fun w => w ++ (xW E ad iv ch rd tp rf (hdI shI aqI) nw tr gr dy im ++ (itsW (itF E aqI shI soI szI kmI bmI RI)))) hxR hbR hmlR hts hown hK hA hl.1 (isCtx.suf _) hI (c6_init l E q_11 (-2)) q445 q94 q443 q444 rfl (by decide +kernel) rfl (Nat.le_of_ble_eq_true rfl) (Nat.le_of_ble_eq_true rfl) ⟨Nat.le_of_ble_eq_true rfl, Nat.le_of_ble_eq_true rfl⟩ (Nat.le_of_ble_eq_true rfl) dX0_coachmanIn_17 (fun u H locs hp hI hz => ?_)
      have hI : wI E AR sR H locs ([(q_11, .inr (6, [.null, .null, .null, .null, .null, .int 0, .int (-2)]))] ++ (xW E ad iv ch rd tp rf (hdI shI aqI) nw tr gr dy im ++ (itsW (itF E aqI shI soI szI kmI bmI RI)))) := hI
      refine vx_athrow hxR hbR dX0_coachmanIn_20 ?_
      obtain ⟨ce_20, hq1, hq2, hq3⟩ := wI_thrown hK hI (ci := 6) (nm := "ThreeStrangers$Refused") rfl rfl (q0 := 0) (he_l rfl)
      have hI : wI E AR sR _ _ (xW E ad iv ch rd tp rf (hdI shI aqI) nw tr gr dy im ++ (itsW (itF E aqI shI soI szI kmI bmI RI) ++ ([(q_11, .inr (6, [.null, .null, .null, .null, .null, .int 0, .int (-2)]))]))) := wI_pick ([[(q_11, .inr (6, [.null, .null, .null, .null, .null, .int 0, .int (-2)]))], xW E ad iv ch rd tp rf (hdI shI aqI) nw tr gr dy im, itsW (itF E aqI shI soI szI kmI bmI RI)]) [1, 2, 0] 3 rfl (by decide) hI
      have hI := wI_w (ws' := xW E ad iv ch rd tp rf (hdI shI aqI) nw tr gr dy im ++ (itsW (itF E aqI shI soI szI kmI bmI RI) ++ ([(q_11, .inr (6, [.null, .null, .null, .null, .null, .int 0, .int (coaV shI m x)]))]))) (by rw [show coaV shI m x = (-2) from (coa_x c_5)]) hI
      exact hthr () _ _ _ _ _ _ _ _ _ _ hq1 hq2 hq3 hI ⟨rfl, (by rw [coa_x c_5]; decide)⟩ (by omega) (by omega)

theorem c0_noV (l : Launch) (E : En) (ad : Nat → Nat) (iv ch rd tp rf : Nat → Int32) (hd : Nat → Option Nat) (nw tr gr dy : Nat) (im : Option Nat) (y : Int32) (hy : y = -2 ∨ y = -3 ∨ y = -4 ∨ y = -5) : CtI l E yX0_no cX0_no 2 .int 0 0 0 [.ref (ad 11), .int y] (xW E ad iv ch rd tp rf hd nw tr gr dy im) (fun (r : Int32) (u : Unit) => r = y) (fun (u : Unit) => xW E ad iv ch rd tp (bumpR rf y) hd nw tr gr dy im) := by
  rcases hy with rfl | rfl | rfl | rfl
  · rw [bump_2]; exact c0_no l E ad iv ch rd tp rf hd nw tr gr dy im (-2) 2 (by decide) (by decide)
  · rw [bump_3]; exact c0_no l E ad iv ch rd tp rf hd nw tr gr dy im (-3) 3 (by decide) (by decide)
  · rw [bump_4]; exact c0_no l E ad iv ch rd tp rf hd nw tr gr dy im (-4) 4 (by decide) (by decide)
  · rw [bump_5]; exact c0_no l E ad iv ch rd tp rf hd nw tr gr dy im (-5) 5 (by decide) (by decide)
