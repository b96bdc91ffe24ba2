theorem c5_fresh_s0 (l : Launch) (E : En) (ad : Nat → Nat) (kp : Option Nat) (iv : Nat → Int32) (ia K : Nat → Nat → Int32) (R : Nat → Nat → Int64) (mv : Nat → Int64) (adb : Nat → Nat) (kpb trb : Option Nat) (ivb : Nat → Int32) (iab Kb : Nat → Nat → Int32) (Rb : Nat → Nat → Int64) (mvb : Nat → Int64)   : CtR l E yX5_fresh cX5_fresh 1 (Jvm.ClassFile.FieldType.object "ThreeStrangersModel") 2 0 0 [.ref (ad 45)] (mW E ad kp (some (adb 45)) iv ia K R mv ++ (mW E adb kpb trb ivb iab Kb Rb mvb)) (fun (u : (Nat → Nat) × (Option Nat) × (Option Nat) × (Nat → Int32) × (Nat → Nat → Int32) × (Nat → Nat → Int64) × (Nat → Int64)) => u.2.2.2.1 10 = iv 10 ∧ u.2.2.2.1 14 = iv 14 ∧ u.2.2.2.1 15 = iv 15 ∧ u.2.2.2.1 16 = iv 16 ∧ u.2.2.2.1 17 = iv 17 ∧ u.2.2.2.1 18 = iv 18 ∧ u.2.2.2.1 19 = iv 19 ∧ u.2.2.2.2.1 11 = ia 11 ∧ u.2.2.2.2.1 12 = ia 12) (fun (u : (Nat → Nat) × (Option Nat) × (Option Nat) × (Nat → Int32) × (Nat → Nat → Int32) × (Nat → Nat → Int64) × (Nat → Int64)) (q : Nat) => mW E ad kp (some q) iv ia K R mv ++ (mW E (va_up u.1 45 q) u.2.1 u.2.2.1 u.2.2.2.1 u.2.2.2.2.1 K u.2.2.2.2.2.1 u.2.2.2.2.2.2)) := by
  refine CtR.of (by decide +kernel) (Nat.le_of_ble_eq_true rfl) (by first | exact Or.inl ⟨_, rfl⟩ | exact Or.inr ⟨_, rfl⟩) ?_
  intro pR eR sR mR aR bR tR cR AR ls QR hxR hbR hmlR hts hown hlk hnm hA hK hI hl hret
  have hl : lv_has ls 1 [(0, .ref (ad 45))] := hl
  refine lv_aload_n hxR hbR dX5_fresh_0 rfl (lv_at hl 0 rfl) ?_
  refine r_get hxR hbR hts hown hK hI okX5 (ci := 5) rfl 16 (he_l mW_o) 21 (by decide) q1499 rfl (v := .ref (adb 45)) rfl dX5_fresh_1 ?_
  refine lv_ifnonnull (tgt := 18) hxR hbR dX5_fresh_4 (by decide) ?_
  refine lv_aload_n hxR hbR dX5_fresh_18 rfl (lv_at hl 0 rfl) ?_
  refine r_get hxR hbR hts hown hK hI okX5 (ci := 5) rfl 16 (he_l mW_o) 21 (by decide) q1499 rfl (v := .ref (adb 45)) rfl dX5_fresh_19 ?_
  refine lv_aload_n hxR hbR dX5_fresh_22 rfl (lv_at hl 0 rfl) ?_
  have hI := wI_comm hI
  refine kVV (n := 1) (As := [.ref (ad 45)]) (rest := []) (fun w => w) hxR hbR hmlR hts hown hK hA hl.1 isCtx.id hI (c5_takeFrom l E adb kpb trb ivb iab Kb Rb mvb ad kp (some (adb 45)) iv ia K R mv  ) (lw_V q1765 q1767 qs51 q86 q1768) ⟨rfl, by decide +kernel⟩ 16 5 rfl rfl (he_l mW_o) rfl (Nat.le_of_ble_eq_true rfl) (Nat.le_of_ble_eq_true rfl) ⟨Nat.le_of_ble_eq_true rfl, Nat.le_of_ble_eq_true rfl⟩ (Nat.le_of_ble_eq_true rfl) dX5_fresh_23 (fun u H locs hp hI hz => ?_)
  have hI : wI E AR sR H locs (mW E adb kpb trb (va_up (va_up (va_up (va_up (va_up (va_up (va_up ivb 10 (iv 10)) 14 (iv 14)) 15 (iv 15)) 16 (iv 16)) 17 (iv 17)) 18 (iv 18)) 19 (iv 19)) (va_up (va_up iab 11 (ia 11)) 12 (ia 12)) K Rb mvb ++ (mW E ad kp (some (adb 45)) iv ia K R mv)) := hI
  have hI := wI_comm hI
  refine lv_aload_n hxR hbR dX5_fresh_26 rfl (lv_at hl 0 rfl) ?_
  refine r_get hxR hbR hts hown hK hI okX5 (ci := 5) rfl 16 (he_l mW_o) 21 (by decide) q1499 rfl (v := .ref (adb 45)) rfl dX5_fresh_27 ?_
  have hI : wI E AR sR H locs (mW E ad kp (some (adb 45)) iv ia K R mv ++ (mW E (va_up adb 45 (adb 45)) kpb trb (va_up (va_up (va_up (va_up (va_up (va_up (va_up ivb 10 (iv 10)) 14 (iv 14)) 15 (iv 15)) 16 (iv 16)) 17 (iv 17)) 18 (iv 18)) 19 (iv 19)) (va_up (va_up iab 11 (ia 11)) 12 (ia 12)) K Rb mvb)) := by rw [va_up_id (f := adb) (k := 45) (v := adb 45) rfl]; exact hI
  exact hret (adb, kpb, trb, (va_up (va_up (va_up (va_up (va_up (va_up (va_up ivb 10 (iv 10)) 14 (iv 14)) 15 (iv 15)) 16 (iv 16)) 17 (iv 17)) 18 (iv 18)) 19 (iv 19)), (va_up (va_up iab 11 (ia 11)) 12 (ia 12)), Rb, mvb) (adb 45) _ _ _ _ _ _ dX5_fresh_30 hI (by show (va_up (va_up (va_up (va_up (va_up (va_up (va_up ivb 10 (iv 10)) 14 (iv 14)) 15 (iv 15)) 16 (iv 16)) 17 (iv 17)) 18 (iv 18)) 19 (iv 19)) 10 = iv 10 ∧ (va_up (va_up (va_up (va_up (va_up (va_up (va_up ivb 10 (iv 10)) 14 (iv 14)) 15 (iv 15)) 16 (iv 16)) 17 (iv 17)) 18 (iv 18)) 19 (iv 19)) 14 = iv 14 ∧ (va_up (va_up (va_up (va_up (va_up (va_up (va_up ivb 10 (iv 10)) 14 (iv 14)) 15 (iv 15)) 16 (iv 16)) 17 (iv 17)) 18 (iv 18)) 19 (iv 19)) 15 = iv 15 ∧ (va_up (va_up (va_up (va_up (va_up (va_up (va_up ivb 10 (iv 10)) 14 (iv 14)) 15 (iv 15)) 16 (iv 16)) 17 (iv 17)) 18 (iv 18)) 19 (iv 19)) 16 = iv 16 ∧ (va_up (va_up (va_up (va_up (va_up (va_up (va_up ivb 10 (iv 10)) 14 (iv 14)) 15 (iv 15)) 16 (iv 16)) 17 (iv 17)) 18 (iv 18)) 19 (iv 19)) 17 = iv 17 ∧ (va_up (va_up (va_up (va_up (va_up (va_up (va_up ivb 10 (iv 10)) 14 (iv 14)) 15 (iv 15)) 16 (iv 16)) 17 (iv 17)) 18 (iv 18)) 19 (iv 19)) 18 = iv 18 ∧ (va_up (va_up (va_up (va_up (va_up (va_up (va_up ivb 10 (iv 10)) 14 (iv 14)) 15 (iv 15)) 16 (iv 16)) 17 (iv 17)) 18 (iv 18)) 19 (iv 19)) 19 = iv 19 ∧ (va_up (va_up iab 11 (ia 11)) 12 (ia 12)) 11 = ia 11 ∧ (va_up (va_up iab 11 (ia 11)) 12 (ia 12)) 12 = ia 12; exact ⟨rfl, rfl, rfl, rfl, rfl, rfl, rfl, rfl, rfl⟩) (Nat.le_of_ble_eq_true rfl) (Nat.le_of_ble_eq_true rfl)

theorem c5_findWays (l : Launch) (E : En) (ad : Nat → Nat) (kp : Option Nat) (iv : Nat → Int32) (ia K : Nat → Nat → Int32) (R : Nat → Nat → Int64) (mv : Nat → Int64) (ob : Option (Nat → Nat)) (kpb trb : Option Nat) (ivb : Nat → Int32) (iab Kb : Nat → Nat → Int32) (Rb : Nat → Nat → Int64) (mvb : Nat → Int64) (n st S : Nat) (hn : iv 10 = nI n) (hst : iv 14 = nI st) (hn7 : n ≤ 7) (hs2 : 2 ≤ st) (hs4 : st ≤ 4) (hS : S < 2 ^ n) (hb5 : bitsN S 8 ≤ 5) : CtV l E yX5_findWays cX5_findWays 5 20 38 1946 [.ref (ad 45), .int (nI S)] (mW E ad kp (oT ob) iv ia K R mv ++ (oM E ob kpb trb ivb iab Kb Rb mvb)) (fun (u : (Nat → Int32) × (Nat → Int32) × (Nat → Int32) × (Nat → Nat) × (Option Nat) × (Option Nat) × (Nat → Int32) × (Nat → Nat → Int32) × (Nat → Nat → Int32) × (Nat → Nat → Int64) × (Nat → Int64)) => ∀ k, k < (prL K S n).length → u.1 k = nI ((prL K S n).getD k (0, 0)).1 ∧ u.2.1 k = nI ((prL K S n).getD k (0, 0)).2 ∧ u.2.2.1 k = nI (wyC K S n st k (2 ^ (prL K S n).length))) (fun (u : (Nat → Int32) × (Nat → Int32) × (Nat → Int32) × (Nat → Nat) × (Option Nat) × (Option Nat) × (Nat → Int32) × (Nat → Nat → Int32) × (Nat → Nat → Int32) × (Nat → Nat → Int64) × (Nat → Int64)) => mW E ad kp (some (u.2.2.2.1 45)) (va_up (va_up iv 42 (nI ((prL K S n).length))) 43 (nI (wyN K S n st (2 ^ (prL K S n).length)))) (va_up (va_up (va_up ia 39 u.1) 40 u.2.1) 41 u.2.2.1) K R mv ++ (mW E u.2.2.2.1 u.2.2.2.2.1 u.2.2.2.2.2.1 u.2.2.2.2.2.2.1 u.2.2.2.2.2.2.2.1 u.2.2.2.2.2.2.2.2.1 u.2.2.2.2.2.2.2.2.2.1 u.2.2.2.2.2.2.2.2.2.2)) := by
  have h28 : 2 ^ n ≤ 2 ^ 7 := Nat.pow_le_pow_right (by decide) hn7
  have hl10 : (prL K S n).length ≤ 10 := pr_10 (by omega) hb5 hn7 (Nat.le_refl n)
  have hp10 : 2 ^ (prL K S n).length ≤ 2 ^ 10 := Nat.pow_le_pow_right (by decide) hl10
  have hp1 := Nat.two_pow_pos (prL K S n).length
  refine CtV.of (by decide +kernel) (Nat.le_of_ble_eq_true rfl) ?_
  intro pR eR sR mR aR bR tR cR AR ls QR hxR hbR hmlR hts hown hlk hnm hA hK hI hl hret
  have hl : lv_has ls 5 [(0, .ref (ad 45)), (1, .int (nI S))] := hl
  refine lv_aload_n hxR hbR dX5_findWays_0 rfl (lv_at hl 0 rfl) ?_
  refine lv_iconst (v := 0) hxR hbR dX5_findWays_1 (by decide) ?_
  refine r_put (v := .int 0) (ws1 := mW E ad kp (oT ob) (va_up iv 42 0) ia K R mv ++ (oM E ob kpb trb ivb iab Kb Rb mvb)) hxR hbR hts hown hK hI okX5 (ci := 5) rfl 16 (he_l mW_o) 42 (by decide) q1520 rfl rfl rfl rfl (Nat.le_of_ble_eq_true rfl) (hw_l (Nat.le_of_ble_eq_true rfl) mW_i42) dX5_findWays_2 (fun H locs hI => ?_)
  have hI := wI_w (ws' := mW E ad kp (oT ob) (va_up iv 42 0) (va_up ia 39 (ia 39)) K R mv ++ (oM E ob kpb trb ivb iab Kb Rb mvb)) (by rw [va_up_id (f := ia) (k := 39) (v := ia 39) rfl]) hI
  have hI := wI_w (ws' := mW E ad kp (oT ob) (va_up iv 42 0) (va_up (va_up ia 39 (ia 39)) 40 (ia 40)) K R mv ++ (oM E ob kpb trb ivb iab Kb Rb mvb)) (by rw [va_up_id (f := (va_up ia 39 (ia 39))) (k := 40) (v := ia 40) (up_n (by decide) rfl)]) hI
  have hI := wI_w (ws' := mW E ad kp (oT ob) (va_up iv 42 0) (va_up (va_up (va_up ia 39 (ia 39)) 40 (ia 40)) 41 (ia 41)) K R mv ++ (oM E ob kpb trb ivb iab Kb Rb mvb)) (by rw [va_up_id (f := (va_up (va_up ia 39 (ia 39)) 40 (ia 40))) (k := 41) (v := ia 41) (up_n (by decide) (up_n (by decide) rfl))]) hI
  have cut_107 : ∀ (c : Nat) (p39 : Nat → Int32) (p40 : Nat → Int32) (p41 : Nat → Int32), (c = (prL K S n).length) → (prA (prL K S n) p39 p40 p41) → ∀ (H : Heap) (locs : List Loc), wI E AR sR H locs (mW E ad kp (oT ob) (va_up iv 42 (nI c)) (va_up (va_up (va_up ia 39 p39) 40 p40) 41 p41) K R mv ++ (oM E ob kpb trb ivb iab Kb Rb mvb)) → ∀ ls : Array Slot, lv_has ls 5 [(0, .ref (ad 45)), (1, .int (nI S))] → W pR l eR (rmF 20 38 1946) sR mR aR bR tR cR H locs 0 0 QR (F0 mR 107 ls []) := by
    intro c p39 p40 p41 hc hPA H locs hI ls hl
    have h2c : 2 ^ c ≤ 2 ^ 10 := Nat.pow_le_pow_right (by decide) (by omega)
    have h2c1 : 1 ≤ 2 ^ c := Nat.two_pow_pos c
    refine lv_aload_n hxR hbR dX5_findWays_107 rfl (lv_at hl 0 rfl) ?_
    refine lv_iconst (v := 0) hxR hbR dX5_findWays_108 (by decide) ?_
    refine r_put (v := .int 0) (ws1 := mW E ad kp (oT ob) (va_up (va_up iv 42 (nI c)) 43 0) (va_up (va_up (va_up ia 39 p39) 40 p40) 41 p41) K R mv ++ (oM E ob kpb trb ivb iab Kb Rb mvb)) hxR hbR hts hown hK hI okX5 (ci := 5) rfl 16 (he_l mW_o) 43 (by decide) q1521 rfl rfl rfl rfl (Nat.le_of_ble_eq_true rfl) (hw_l (Nat.le_of_ble_eq_true rfl) mW_i43) dX5_findWays_109 (fun H locs hI => ?_)
    obtain ⟨m, hm0⟩ : ∃ m : Nat, m = 0 := ⟨0, rfl⟩
    have hw : 0 = wyN K S n st m := by rw [hm0]; rfl
    have h41 : ∀ k, k < (prL K S n).length → p41 k = nI (wyC K S n st k m) := fun k hk => by rw [hm0]; exact (hPA k hk).2.2
    refine lv_iconst (v := 0) hxR hbR dX5_findWays_112 (by decide) ?_
    refine lv_as (y := nI m) (by rw [hm0]; rfl) ?_
    refine lv_istore_n (lv' := [(2, .int (nI m)), (0, .ref (ad 45)), (1, .int (nI S))]) hxR hbR dX5_findWays_113 rfl hl (by decide) rfl (fun ls hl => ?_)
    refine lv_iload_n hxR hbR dX5_findWays_114 rfl (lv_at hl 0 rfl) ?_
    refine lv_iconst (v := 1) hxR hbR dX5_findWays_115 (by decide) ?_
    refine lv_aload_n hxR hbR dX5_findWays_116 rfl (lv_at hl 1 rfl) ?_
    refine r_get hxR hbR hts hown hK hI okX5 (ci := 5) rfl 16 (he_l mW_o) 42 (by decide) q1520 rfl (v := .int (nI c)) (al (up_n (by decide) va_up_s)) dX5_findWays_117 ?_
    refine lv_ishl hxR hbR dX5_findWays_120 ?_
    refine lv_as (y := nI (2 ^ c)) (nb_shl c (by omega)) ?_
    refine lv_icmp_ge (tgt := 233) hxR hbR dX5_findWays_121 (by decide) (fun c_121 => ?_) (fun c_121 => ?_)
    · skip
      have c_121 : (2 ^ c) ≤ m := (n_le (a := (2 ^ c)) (b := m) (by omega) (by omega)).mp c_121
      exfalso
      omega
    · skip
      have c_121 : m < (2 ^ c) := Nat.lt_of_not_le (fun zz => c_121 ((n_le (a := (2 ^ c)) (b := m) (by omega) (by omega)).mpr zz))
      refine lv_aload_n hxR hbR dX5_findWays_124 rfl (lv_at hl 1 rfl) ?_
      refine kVR (n := 0) (As := []) (rest := []) (fun w => w) hxR hbR hmlR hts hown hK hA hl.1 isCtx.id hI (c5_fresh l E ad kp (va_up (va_up iv 42 (nI c)) 43 0) (va_up (va_up (va_up ia 39 p39) 40 p40) 41 p41) K R mv ob kpb trb ivb iab Kb Rb mvb) (lw_V q1759 q1761 qs50 q86 q1762) ⟨rfl, by decide +kernel⟩ 16 5 rfl rfl (he_l mW_o) rfl (Nat.le_of_ble_eq_true rfl) (Nat.le_of_ble_eq_true rfl) ⟨Nat.le_of_ble_eq_true rfl, Nat.le_of_ble_eq_true rfl⟩ (Nat.le_of_ble_eq_true rfl) dX5_findWays_125 (fun u r_125 H locs hp hI hz => ?_)
      obtain ⟨adN_125, kpN_125, trN_125, ivN_125, iaN_125, RN_125, mvN_125⟩ := u
      have hp : ivN_125 10 = iv 10 ∧ ivN_125 14 = iv 14 ∧ ivN_125 15 = iv 15 ∧ ivN_125 16 = iv 16 ∧ ivN_125 17 = iv 17 ∧ ivN_125 18 = iv 18 ∧ ivN_125 19 = iv 19 ∧ iaN_125 11 = ia 11 ∧ iaN_125 12 = ia 12 := hp
      obtain ⟨hv10_125, hv14_125, hv15_125, hv16_125, hv17_125, hv18_125, hv19_125, ha11_125, ha12_125⟩ := hp
      have hI : wI E AR sR H locs (mW E ad kp (some r_125) (va_up (va_up iv 42 (nI c)) 43 0) (va_up (va_up (va_up ia 39 p39) 40 p40) 41 p41) K R mv ++ (mW E (va_up adN_125 45 r_125) kpN_125 trN_125 ivN_125 iaN_125 K RN_125 mvN_125)) := hI
      generalize hadb_125 : va_up adN_125 45 r_125 = adb_125 at hI
      have e_125 : r_125 = adb_125 45 := by rw [← hadb_125, va_up_s]
      clear hadb_125
      subst e_125
      refine lv_astore_n (lv' := [(3, .ref (adb_125 45)), (2, .int (nI m)), (0, .ref (ad 45)), (1, .int (nI S))]) hxR hbR dX5_findWays_128 rfl hl (by decide) rfl (fun ls hl => ?_)
      have cut_227 : ∀ (w2 : Nat) (q41 : Nat → Int32) (ivz : Nat → Int32) (iaz : Nat → Nat → Int32) (Kz : Nat → Nat → Int32), (w2 = wyN K S n st (m + 1)) → (∀ k, k < (prL K S n).length → q41 k = nI (wyC K S n st k (m + 1))) → ∀ (H : Heap) (locs : List Loc), wI E AR sR H locs (mW E ad kp (some (adb_125 45)) (va_up (va_up iv 42 (nI c)) 43 (nI w2)) (va_up (va_up (va_up ia 39 p39) 40 p40) 41 q41) K R mv ++ (mW E adb_125 kpN_125 trN_125 ivz iaz Kz RN_125 mvN_125)) → ∀ ls : Array Slot, lv_has ls 5 [(0, .ref (ad 45)), (1, .int (nI S)), (2, .int (nI m))] → W pR l eR (rmF 20 38 1946) sR mR aR bR tR cR H locs 38 1946 QR (F0 mR 227 ls []) := by
        intro w2 q41 ivz iaz Kz hw2 h412 H locs hI ls hl
        refine lv_iinc (v := nI (m + 1)) (lv' := [(2, .int (nI (m + 1))), (0, .ref (ad 45)), (1, .int (nI S))]) hxR hbR dX5_findWays_227 hl (k := 2) rfl (show nI m + 1 = nI (m + 1) from nI_add _ 1) (by decide) rfl (fun ls hl => ?_)
        refine lv_goto (tgt := 114) hxR hbR dX5_findWays_230 (by decide) ?_
        have lp_114 : ∀ (fu : Nat) (m : Nat) (wy : Nat) (r41 : Nat → Int32) (adx : Nat → Nat) (kpx : Option Nat) (trx : Option Nat) (ivx : Nat → Int32) (iax : Nat → Nat → Int32) (Kb : Nat → Nat → Int32) (Rx : Nat → Nat → Int64) (mvx : Nat → Int64), (m ≤ 2 ^ c) → (wy = wyN K S n st m) → (∀ k, k < (prL K S n).length → r41 k = nI (wyC K S n st k m)) → 2 ^ c - m < fu → ∀ (H : Heap) (locs : List Loc), wI E AR sR H locs (mW E ad kp (some (adx 45)) (va_up (va_up iv 42 (nI c)) 43 (nI wy)) (va_up (va_up (va_up ia 39 p39) 40 p40) 41 r41) K R mv ++ (mW E adx kpx trx ivx iax Kb Rx mvx)) → ∀ ls : Array Slot, lv_has ls 5 [(0, .ref (ad 45)), (1, .int (nI S)), (2, .int (nI m))] → W pR l eR (rmF 20 38 1946) sR mR aR bR tR cR H locs 38 1946 QR (F0 mR 114 ls []) := by
          intro fu
          induction fu with
          | zero =>
            intro m wy r41 adx kpx trx ivx iax Kb Rx mvx hm hw h41 hfu
            exact absurd hfu (Nat.not_lt_zero _)
          | succ fu ih_114 =>
            intro m wy r41 adx kpx trx ivx iax Kb Rx mvx hm hw h41 hfu H locs hI ls hl
            refine lv_iload_n hxR hbR dX5_findWays_114 rfl (lv_at hl 2 rfl) ?_
            refine lv_iconst (v := 1) hxR hbR dX5_findWays_115 (by decide) ?_
            refine lv_aload_n hxR hbR dX5_findWays_116 rfl (lv_at hl 0 rfl) ?_
            refine r_get hxR hbR hts hown hK hI okX5 (ci := 5) rfl 16 (he_l mW_o) 42 (by decide) q1520 rfl (v := .int (nI c)) (al (up_n (by decide) va_up_s)) dX5_findWays_117 ?_
            refine lv_ishl hxR hbR dX5_findWays_120 ?_
            refine lv_as (y := nI (2 ^ c)) (nb_shl c (by omega)) ?_
            refine lv_icmp_ge (tgt := 233) hxR hbR dX5_findWays_121 (by decide) (fun c_121 => ?_) (fun c_121 => ?_)
            · skip
              have c_121 : (2 ^ c) ≤ m := (n_le (a := (2 ^ c)) (b := m) (by omega) (by omega)).mp c_121
              have hI : wI E AR sR H locs (mW E ad kp (some (adx 45)) (va_up (va_up iv 42 (nI ((prL K S n).length))) 43 (nI (wyN K S n st (2 ^ (prL K S n).length)))) (va_up (va_up (va_up ia 39 p39) 40 p40) 41 r41) K R mv ++ (mW E adx kpx trx ivx iax Kb Rx mvx)) := by rw [← hc, show 2 ^ c = m by omega, ← hw]; exact hI
              exact hret (p39, p40, r41, adx, kpx, trx, ivx, iax, Kb, Rx, mvx) _ _ _ _ _ _ dX5_findWays_233 hI (by show ∀ k, k < (prL K S n).length → p39 k = nI ((prL K S n).getD k (0, 0)).1 ∧ p40 k = nI ((prL K S n).getD k (0, 0)).2 ∧ r41 k = nI (wyC K S n st k (2 ^ (prL K S n).length)); exact fun k hk => ⟨(hPA k hk).1, (hPA k hk).2.1, by rw [← hc, show 2 ^ c = m by omega]; exact h41 k hk⟩) (Nat.le_of_ble_eq_true rfl) (Nat.le_of_ble_eq_true rfl)
            · skip
              have c_121 : m < (2 ^ c) := Nat.lt_of_not_le (fun zz => c_121 ((n_le (a := (2 ^ c)) (b := m) (by omega) (by omega)).mpr zz))
              refine lv_aload_n hxR hbR dX5_findWays_124 rfl (lv_at hl 0 rfl) ?_
              refine kVR (n := 0) (As := []) (rest := []) (fun w => w) hxR hbR hmlR hts hown hK hA hl.1 isCtx.id hI (c5_fresh_s0 l E ad kp (va_up (va_up iv 42 (nI c)) 43 (nI wy)) (va_up (va_up (va_up ia 39 p39) 40 p40) 41 r41) K R mv adx kpx trx ivx iax Kb Rx mvx) (lw_V q1759 q1761 qs50 q86 q1762) ⟨rfl, by decide +kernel⟩ 16 5 rfl rfl (he_l mW_o) rfl (Nat.le_of_ble_eq_true rfl) (Nat.le_of_ble_eq_true rfl) ⟨Nat.le_of_ble_eq_true rfl, Nat.le_of_ble_eq_true rfl⟩ (Nat.le_of_ble_eq_true rfl) dX5_findWays_125 (fun u r_125 H locs hp hI hz => ?_)
              obtain ⟨adN_125, kpN_125, trN_125, ivN_125, iaN_125, RN_125, mvN_125⟩ := u
              have hp : ivN_125 10 = iv 10 ∧ ivN_125 14 = iv 14 ∧ ivN_125 15 = iv 15 ∧ ivN_125 16 = iv 16 ∧ ivN_125 17 = iv 17 ∧ ivN_125 18 = iv 18 ∧ ivN_125 19 = iv 19 ∧ iaN_125 11 = ia 11 ∧ iaN_125 12 = ia 12 := hp
              obtain ⟨hv10_125, hv14_125, hv15_125, hv16_125, hv17_125, hv18_125, hv19_125, ha11_125, ha12_125⟩ := hp
              have hI : wI E AR sR H locs (mW E ad kp (some r_125) (va_up (va_up iv 42 (nI c)) 43 (nI wy)) (va_up (va_up (va_up ia 39 p39) 40 p40) 41 r41) K R mv ++ (mW E (va_up adN_125 45 r_125) kpN_125 trN_125 ivN_125 iaN_125 K RN_125 mvN_125)) := hI
              generalize hadb_125 : va_up adN_125 45 r_125 = adb_125 at hI
              have e_125 : r_125 = adb_125 45 := by rw [← hadb_125, va_up_s]
              clear hadb_125
              subst e_125
              refine lv_astore_n (lv' := [(3, .ref (adb_125 45)), (0, .ref (ad 45)), (1, .int (nI S)), (2, .int (nI m))]) hxR hbR dX5_findWays_128 rfl hl (by decide) rfl (fun ls hl => ?_)
              have cut_227 : ∀ (w2 : Nat) (q41 : Nat → Int32) (ivz : Nat → Int32) (iaz : Nat → Nat → Int32) (Kz : Nat → Nat → Int32), (w2 = wyN K S n st (m + 1)) → (∀ k, k < (prL K S n).length → q41 k = nI (wyC K S n st k (m + 1))) → ∀ (H : Heap) (locs : List Loc), wI E AR sR H locs (mW E ad kp (some (adb_125 45)) (va_up (va_up iv 42 (nI c)) 43 (nI w2)) (va_up (va_up (va_up ia 39 p39) 40 p40) 41 q41) K R mv ++ (mW E adb_125 kpN_125 trN_125 ivz iaz Kz RN_125 mvN_125)) → ∀ ls : Array Slot, lv_has ls 5 [(0, .ref (ad 45)), (1, .int (nI S)), (2, .int (nI m))] → W pR l eR (rmF 20 38 1946) sR mR aR bR tR cR H locs 38 1946 QR (F0 mR 227 ls []) := by
                intro w2 q41 ivz iaz Kz hw2 h412 H locs hI ls hl
                refine lv_iinc (v := nI (m + 1)) (lv' := [(2, .int (nI (m + 1))), (0, .ref (ad 45)), (1, .int (nI S))]) hxR hbR dX5_findWays_227 hl (k := 2) rfl (show nI m + 1 = nI (m + 1) from nI_add _ 1) (by decide) rfl (fun ls hl => ?_)
                refine lv_goto (tgt := 114) hxR hbR dX5_findWays_230 (by decide) ?_
                exact ih_114 (m + 1) w2 q41 adb_125 kpN_125 trN_125 ivz iaz Kz RN_125 mvN_125 (by first | omega | with_reducible assumption) hw2 h412 (by omega) _ _ hI _ (lv_sub hl [1, 2, 0] rfl)
              refine lv_iconst (v := 0) hxR hbR dX5_findWays_129 (by decide) ?_
              refine lv_istore (lv' := [(4, .int 0), (3, .ref (adb_125 45)), (0, .ref (ad 45)), (1, .int (nI S)), (2, .int (nI m))]) hxR hbR dX5_findWays_130 hl (by decide) rfl (fun ls hl => ?_)
              have lp_132 : ∀ (fu : Nat) (k : Nat) (Kx : Nat → Nat → Int32), (k ≤ c) → (Kx = wyK K (prL K S n) m k) → c - k < fu → ∀ (H : Heap) (locs : List Loc), wI E AR sR H locs (mW E ad kp (some (adb_125 45)) (va_up (va_up iv 42 (nI c)) 43 (nI wy)) (va_up (va_up (va_up ia 39 p39) 40 p40) 41 r41) K R mv ++ (mW E adb_125 kpN_125 trN_125 ivN_125 iaN_125 Kx RN_125 mvN_125)) → ∀ ls : Array Slot, lv_has ls 5 [(0, .ref (ad 45)), (1, .int (nI S)), (2, .int (nI m)), (3, .ref (adb_125 45)), (4, .int (nI k))] → W pR l eR (rmF 20 38 1946) sR mR aR bR tR cR H locs 38 1946 QR (F0 mR 132 ls []) := by
                intro fu
                induction fu with
                | zero =>
                  intro k Kx hk hKx hfu
                  exact absurd hfu (Nat.not_lt_zero _)
                | succ fu ih_132 =>
                  intro k Kx hk hKx hfu H locs hI ls hl
                  refine lv_iload hxR hbR dX5_findWays_132 (lv_at hl 4 rfl) ?_
                  refine lv_aload_n hxR hbR dX5_findWays_134 rfl (lv_at hl 0 rfl) ?_
                  refine r_get hxR hbR hts hown hK hI okX5 (ci := 5) rfl 16 (he_l mW_o) 42 (by decide) q1520 rfl (v := .int (nI c)) (al (up_n (by decide) va_up_s)) dX5_findWays_135 ?_
                  refine lv_icmp_ge (tgt := 175) hxR hbR dX5_findWays_138 (by decide) (fun c_138 => ?_) (fun c_138 => ?_)
                  · skip
                    have c_138 : c ≤ k := (n_le (a := c) (b := k) (by omega) (by omega)).mp c_138
                    have hkc : k = (prL K S n).length := by omega
                    refine lv_aload_n hxR hbR dX5_findWays_175 rfl (lv_at hl 3 rfl) ?_
                    refine lv_iload_n hxR hbR dX5_findWays_176 rfl (lv_at hl 1 rfl) ?_
                    refine kVI (n := 1) (As := [.int (nI S)]) (rest := []) (fun w => (mW E ad kp (some (adb_125 45)) (va_up (va_up iv 42 (nI c)) 43 (nI wy)) (va_up (va_up (va_up ia 39 p39) 40 p40) 41 r41) K R mv) ++ w) hxR hbR hmlR hts hown hK hA hl.1 (isCtx.pre _) hI (c5_groupsOf l E adb_125 kpN_125 trN_125 ivN_125 iaN_125 Kx RN_125 mvN_125 n st S (Eq.trans hv10_125 hn) (Eq.trans hv14_125 hst) (by omega) (by first | omega | with_reducible assumption) (by first | omega | with_reducible assumption)) (lw_V q1874 q1876 qs65 q86 q1877) ⟨rfl, by decide +kernel⟩ 16 5 rfl rfl mW_o rfl (Nat.le_of_ble_eq_true rfl) (Nat.le_of_ble_eq_true rfl) ⟨Nat.le_of_ble_eq_true rfl, Nat.le_of_ble_eq_true rfl⟩ (Nat.le_of_ble_eq_true rfl) dX5_findWays_177 (fun r_177 u H locs hp hI hz => ?_)
                    have hI : wI E AR sR H locs (mW E ad kp (some (adb_125 45)) (va_up (va_up iv 42 (nI c)) 43 (nI wy)) (va_up (va_up (va_up ia 39 p39) 40 p40) 41 r41) K R mv ++ (mW E adb_125 kpN_125 trN_125 (va_up ivN_125 30 (nI ((GL Kx n st).length))) (va_up iaN_125 29 (wrL (iaN_125 29) 0 (GL Kx n st))) Kx RN_125 mvN_125)) := hI
                    have hp : r_177 = nI (cntL S (GL Kx n st)) := hp
                    have hr_177 := hp
                    subst hr_177
                    have hcl := cntL_le S (GL Kx n st)
                    have hgl := GL_len (K := Kx) (n := n) (st := st) (by omega) hs4
                    refine lv_if_ne (tgt := 227) hxR hbR dX5_findWays_180 (by decide) (fun c_180 => ?_) (fun c_180 => ?_)
                    · skip
                      have c_180 : ¬ (cntL S (GL Kx n st)) = 0 := fun zz => c_180 ((n_eq (a := (cntL S (GL Kx n st))) (b := 0) (by omega) (by omega)).mpr zz)
                      exact cut_227 wy r41 (va_up ivN_125 30 (nI ((GL Kx n st).length))) (va_up iaN_125 29 (wrL (iaN_125 29) 0 (GL Kx n st))) Kx (by first | (rw [wyN, if_neg (wyO_f hKx hkc c_180), ← hw]; try rfl) | (rw [wyN, if_pos (wyO_t hKx hkc c_180), ← hw]; try rfl)) (by first | (intro z hz; rw [wyC, if_neg (wyO_f hKx hkc c_180)]; exact h41 z hz) | (intro z hz; exact h41a z (by omega))) _ _ hI _ (lv_sub hl [0, 1, 2] rfl)
                    · skip
                      have c_180 : (cntL S (GL Kx n st)) = 0 := (n_eq (a := (cntL S (GL Kx n st))) (b := 0) (by omega) (by omega)).mp c_180
                      refine lv_aload_n hxR hbR dX5_findWays_183 rfl (lv_at hl 0 rfl) ?_
                      refine lv_dup hxR hbR dX5_findWays_184 rfl ?_
                      refine r_get hxR hbR hts hown hK hI okX5 (ci := 5) rfl 16 (he_l mW_o) 43 (by decide) q1521 rfl (v := .int (nI wy)) (al va_up_s) dX5_findWays_185 ?_
                      refine lv_iconst (v := 1) hxR hbR dX5_findWays_188 (by decide) ?_
                      refine lv_iadd hxR hbR dX5_findWays_189 ?_
                      refine lv_as (y := nI (wy + 1)) (nI_add wy 1) ?_
                      refine r_put (v := .int (nI (wy + 1))) (ws1 := mW E ad kp (some (adb_125 45)) (va_up (va_up iv 42 (nI c)) 43 (nI (wy + 1))) (va_up (va_up (va_up ia 39 p39) 40 p40) 41 r41) K R mv ++ (mW E adb_125 kpN_125 trN_125 (va_up ivN_125 30 (nI ((GL Kx n st).length))) (va_up iaN_125 29 (wrL (iaN_125 29) 0 (GL Kx n st))) Kx RN_125 mvN_125)) hxR hbR hts hown hK hI okX5 (ci := 5) rfl 16 (he_l mW_o) 43 (by decide) q1521 rfl rfl rfl rfl (Nat.le_of_ble_eq_true rfl) (hw_l (Nat.le_of_ble_eq_true rfl) (Eq.trans mW_i43 (mW_c1 up_0))) dX5_findWays_190 (fun H locs hI => ?_)
                      refine lv_iconst (v := 0) hxR hbR dX5_findWays_193 (by decide) ?_
                      refine lv_istore (lv' := [(4, .int 0), (0, .ref (ad 45)), (1, .int (nI S)), (2, .int (nI m)), (3, .ref (adb_125 45))]) hxR hbR dX5_findWays_194 hl (by decide) rfl (fun ls hl => ?_)
                      have lp_196 : ∀ (fu : Nat) (k : Nat) (s41 : Nat → Int32), (k ≤ c) → (∀ z, z < k → s41 z = nI (wyC K S n st z (m + 1))) → (∀ z, k ≤ z → z < (prL K S n).length → s41 z = nI (wyC K S n st z m)) → c - k < fu → ∀ (H : Heap) (locs : List Loc), wI E AR sR H locs (mW E ad kp (some (adb_125 45)) (va_up (va_up iv 42 (nI c)) 43 (nI (wy + 1))) (va_up (va_up (va_up ia 39 p39) 40 p40) 41 s41) K R mv ++ (mW E adb_125 kpN_125 trN_125 (va_up ivN_125 30 (nI ((GL Kx n st).length))) (va_up iaN_125 29 (wrL (iaN_125 29) 0 (GL Kx n st))) Kx RN_125 mvN_125)) → ∀ ls : Array Slot, lv_has ls 5 [(0, .ref (ad 45)), (1, .int (nI S)), (2, .int (nI m)), (3, .ref (adb_125 45)), (4, .int (nI k))] → W pR l eR (rmF 20 38 1946) sR mR aR bR tR cR H locs 38 1946 QR (F0 mR 196 ls []) := by
                        intro fu
                        induction fu with
                        | zero =>
                          intro k s41 hk2 h41a h41b hfu
                          exact absurd hfu (Nat.not_lt_zero _)
                        | succ fu ih_196 =>
                          intro k s41 hk2 h41a h41b hfu H locs hI ls hl
                          refine lv_iload hxR hbR dX5_findWays_196 (lv_at hl 4 rfl) ?_
                          refine lv_aload_n hxR hbR dX5_findWays_198 rfl (lv_at hl 0 rfl) ?_
                          refine r_get hxR hbR hts hown hK hI okX5 (ci := 5) rfl 16 (he_l mW_o) 42 (by decide) q1520 rfl (v := .int (nI c)) (al (up_n (by decide) va_up_s)) dX5_findWays_199 ?_
                          refine lv_icmp_ge (tgt := 227) hxR hbR dX5_findWays_202 (by decide) (fun c_202 => ?_) (fun c_202 => ?_)
                          · skip
                            have c_202 : c ≤ k := (n_le (a := c) (b := k) (by omega) (by omega)).mp c_202
                            exact cut_227 (wy + 1) s41 (va_up ivN_125 30 (nI ((GL Kx n st).length))) (va_up iaN_125 29 (wrL (iaN_125 29) 0 (GL Kx n st))) Kx (by first | (rw [wyN, if_neg (wyO_f hKx hkc c_180), ← hw]; try rfl) | (rw [wyN, if_pos (wyO_t hKx hkc c_180), ← hw]; try rfl)) (by first | (intro z hz; rw [wyC, if_neg (wyO_f hKx hkc c_180)]; exact h41 z hz) | (intro z hz; exact h41a z (by omega))) _ _ hI _ (lv_sub hl [0, 1, 2] rfl)
                          · skip
                            have c_202 : k < c := Nat.lt_of_not_le (fun zz => c_202 ((n_le (a := c) (b := k) (by omega) (by omega)).mpr zz))
                            refine lv_aload_n hxR hbR dX5_findWays_205 rfl (lv_at hl 0 rfl) ?_
                            refine r_get hxR hbR hts hown hK hI okX5 (ci := 5) rfl 16 (he_l mW_o) 41 (by decide) q1519 rfl (v := .ref (ad 41)) rfl dX5_findWays_206 ?_
                            refine lv_iload hxR hbR dX5_findWays_209 (lv_at hl 4 rfl) ?_
                            refine lv_dup2_11 hxR hbR dX5_findWays_211 rfl rfl ?_
                            refine r_iald hxR hbR hK hI 37 (n := 10) (J := k) (f := s41) (v := nI (wyC K S n st k m)) (he_l (mW_g41 va_up_s)) (by omega) (by decide) (h41b _ (Nat.le_refl _) (by omega)) dX5_findWays_212 ?_
                            refine lv_iload_n hxR hbR dX5_findWays_213 rfl (lv_at hl 2 rfl) ?_
                            refine lv_iload hxR hbR dX5_findWays_214 (lv_at hl 4 rfl) ?_
                            refine lv_ishr hxR hbR dX5_findWays_216 ?_
                            refine lv_as (y := nI (m >>> k)) (nb_shr m k (by omega) (by omega)) ?_
                            refine lv_iconst (v := 1) hxR hbR dX5_findWays_217 (by decide) ?_
                            refine lv_iand hxR hbR dX5_findWays_218 ?_
                            refine lv_as (y := nI ((m >>> k) &&& 1)) (nb_and (m >>> k) 1) ?_
                            refine lv_iadd hxR hbR dX5_findWays_219 ?_
                            refine lv_as (y := nI ((wyC K S n st k m) + ((m >>> k) &&& 1))) (nI_add (wyC K S n st k m) ((m >>> k) &&& 1)) ?_
                            refine r_iast (ws1 := mW E ad kp (some (adb_125 45)) (va_up (va_up iv 42 (nI c)) 43 (nI (wy + 1))) (va_up (va_up (va_up ia 39 p39) 40 p40) 41 (va_up s41 k (nI ((wyC K S n st k m) + ((m >>> k) &&& 1))))) K R mv ++ (mW E adb_125 kpN_125 trN_125 (va_up ivN_125 30 (nI ((GL Kx n st).length))) (va_up iaN_125 29 (wrL (iaN_125 29) 0 (GL Kx n st))) Kx RN_125 mvN_125)) hxR hbR hK hI 37 (n := 10) (J := k) (f := s41) (he_l (mW_g41 va_up_s)) (by omega) (by decide) (hw_l (Nat.le_of_ble_eq_true rfl) (Eq.trans mW_a41 (mW_c2 up_0))) dX5_findWays_220 (fun H locs hI => ?_)
                            refine lv_iinc (v := nI (k + 1)) (lv' := [(4, .int (nI (k + 1))), (0, .ref (ad 45)), (1, .int (nI S)), (2, .int (nI m)), (3, .ref (adb_125 45))]) hxR hbR dX5_findWays_221 hl (k := 4) rfl (show nI k + 1 = nI (k + 1) from nI_add _ 1) (by decide) rfl (fun ls hl => ?_)
                            refine lv_goto (tgt := 196) hxR hbR dX5_findWays_224 (by decide) ?_
                            exact ih_196 (k + 1) (va_up s41 k (nI ((wyC K S n st k m) + ((m >>> k) &&& 1)))) (by first | omega | with_reducible assumption) (wyC_a h41a (wyO_t hKx hkc c_180)) (wyC_b h41b) (by omega) _ _ hI _ (lv_sub hl [1, 2, 3, 4, 0] rfl)
                      exact lp_196 _ 0 r41 (by first | omega | with_reducible assumption) (fun z hz => absurd hz (Nat.not_lt_zero _)) (fun z _ hz => h41 z hz) (Nat.lt_succ_self _) _ _ hI _ (lv_sub hl [1, 2, 3, 4, 0] rfl)
                  · skip
                    have c_138 : k < c := Nat.lt_of_not_le (fun zz => c_138 ((n_le (a := c) (b := k) (by omega) (by omega)).mpr zz))
                    refine lv_iload_n hxR hbR dX5_findWays_141 rfl (lv_at hl 2 rfl) ?_
                    refine lv_iload hxR hbR dX5_findWays_142 (lv_at hl 4 rfl) ?_
                    refine lv_ishr hxR hbR dX5_findWays_144 ?_
                    refine lv_as (y := nI (m >>> k)) (nb_shr m k (by omega) (by omega)) ?_
                    refine lv_iconst (v := 1) hxR hbR dX5_findWays_145 (by decide) ?_
                    refine lv_iand hxR hbR dX5_findWays_146 ?_
                    refine lv_as (y := nI ((m >>> k) &&& 1)) (nb_and (m >>> k) 1) ?_
                    refine lv_if_eq (tgt := 169) hxR hbR dX5_findWays_147 (by decide) (fun c_147 => ?_) (fun c_147 => ?_)
                    · skip
                      have c_147 : ((m >>> k) &&& 1) = 0 := (n_eq (a := ((m >>> k) &&& 1)) (b := 0) (by have : m >>> k &&& 1 ≤ 1 := Nat.and_le_right; omega) (by decide)).mp c_147
                      refine lv_iinc (v := nI (k + 1)) (lv' := [(4, .int (nI (k + 1))), (0, .ref (ad 45)), (1, .int (nI S)), (2, .int (nI m)), (3, .ref (adb_125 45))]) hxR hbR dX5_findWays_169 hl (k := 4) rfl (show nI k + 1 = nI (k + 1) from nI_add _ 1) (by decide) rfl (fun ls hl => ?_)
                      refine lv_goto (tgt := 132) hxR hbR dX5_findWays_172 (by decide) ?_
                      exact ih_132 (k + 1) Kx (by first | omega | with_reducible assumption) (by first | exact wyK_0 c_147 hKx | exact wyK_1 c_147 hKx) (by omega) _ _ hI _ (lv_sub hl [1, 2, 3, 4, 0] rfl)
                    · skip
                      have c_147 : ¬ ((m >>> k) &&& 1) = 0 := fun zz => c_147 ((n_eq (a := ((m >>> k) &&& 1)) (b := 0) (by have : m >>> k &&& 1 ≤ 1 := Nat.and_le_right; omega) (by decide)).mpr zz)
                      have hmem := prI_mem (pget_mem (L := (prL K S n)) (k := k) (by omega))
                      refine lv_aload_n hxR hbR dX5_findWays_150 rfl (lv_at hl 3 rfl) ?_
                      refine lv_aload_n hxR hbR dX5_findWays_151 rfl (lv_at hl 0 rfl) ?_
                      refine r_get hxR hbR hts hown hK hI okX5 (ci := 5) rfl 16 (he_l mW_o) 39 (by decide) q1517 rfl (v := .ref (ad 39)) rfl dX5_findWays_152 ?_
                      refine lv_iload hxR hbR dX5_findWays_155 (lv_at hl 4 rfl) ?_
                      refine r_iald hxR hbR hK hI 35 (n := 10) (J := k) (f := p39) (v := nI (((prL K S n).getD k (0, 0)).1)) (he_l (mW_g39 (up_n (by decide) (up_n (by decide) va_up_s)))) (by omega) (by decide) (hPA _ (by omega)).1 dX5_findWays_157 ?_
                      refine lv_aload_n hxR hbR dX5_findWays_158 rfl (lv_at hl 0 rfl) ?_
                      refine r_get hxR hbR hts hown hK hI okX5 (ci := 5) rfl 16 (he_l mW_o) 40 (by decide) q1518 rfl (v := .ref (ad 40)) rfl dX5_findWays_159 ?_
                      refine lv_iload hxR hbR dX5_findWays_162 (lv_at hl 4 rfl) ?_
                      refine r_iald hxR hbR hK hI 36 (n := 10) (J := k) (f := p40) (v := nI (((prL K S n).getD k (0, 0)).2)) (he_l (mW_g40 (up_n (by decide) va_up_s))) (by omega) (by decide) (hPA _ (by omega)).2.1 dX5_findWays_164 ?_
                      refine lv_iconst (v := 0) hxR hbR dX5_findWays_165 (by decide) ?_
                      refine kVV (n := 3) (As := [.int (nI (((prL K S n).getD k (0, 0)).1)), .int (nI (((prL K S n).getD k (0, 0)).2)), .int 0]) (rest := []) (fun w => (mW E ad kp (some (adb_125 45)) (va_up (va_up iv 42 (nI c)) 43 (nI wy)) (va_up (va_up (va_up ia 39 p39) 40 p40) 41 r41) K R mv) ++ w) hxR hbR hmlR hts hown hK hA hl.1 (isCtx.pre _) hI (c5_knows l E adb_125 kpN_125 trN_125 ivN_125 iaN_125 Kx RN_125 mvN_125 (((prL K S n).getD k (0, 0)).1) (((prL K S n).getD k (0, 0)).2) 0 (by first | omega | with_reducible assumption) (by first | omega | with_reducible assumption)) (lw_V q1737 q1739 qs49 q86 q1740) ⟨rfl, by decide +kernel⟩ 16 5 rfl rfl mW_o rfl (Nat.le_of_ble_eq_true rfl) (Nat.le_of_ble_eq_true rfl) ⟨Nat.le_of_ble_eq_true rfl, Nat.le_of_ble_eq_true rfl⟩ (Nat.le_of_ble_eq_true rfl) dX5_findWays_166 (fun u H locs hp hI hz => ?_)
                      have hI : wI E AR sR H locs (mW E ad kp (some (adb_125 45)) (va_up (va_up iv 42 (nI c)) 43 (nI wy)) (va_up (va_up (va_up ia 39 p39) 40 p40) 41 r41) K R mv ++ (mW E adb_125 kpN_125 trN_125 ivN_125 iaN_125 (knF Kx (((prL K S n).getD k (0, 0)).1) (((prL K S n).getD k (0, 0)).2) 0) RN_125 mvN_125)) := hI
                      refine lv_iinc (v := nI (k + 1)) (lv' := [(4, .int (nI (k + 1))), (0, .ref (ad 45)), (1, .int (nI S)), (2, .int (nI m)), (3, .ref (adb_125 45))]) hxR hbR dX5_findWays_169 hl (k := 4) rfl (show nI k + 1 = nI (k + 1) from nI_add _ 1) (by decide) rfl (fun ls hl => ?_)
                      refine lv_goto (tgt := 132) hxR hbR dX5_findWays_172 (by decide) ?_
                      exact ih_132 (k + 1) (knF Kx (((prL K S n).getD k (0, 0)).1) (((prL K S n).getD k (0, 0)).2) 0) (by first | omega | with_reducible assumption) (by first | exact wyK_0 c_147 hKx | exact wyK_1 c_147 hKx) (by omega) _ _ hI _ (lv_sub hl [1, 2, 3, 4, 0] rfl)
              exact lp_132 _ 0 K (by first | omega | with_reducible assumption) rfl (Nat.lt_succ_self _) _ _ hI _ (lv_sub hl [2, 3, 4, 1, 0] rfl)
        exact lp_114 _ (m + 1) w2 q41 adb_125 kpN_125 trN_125 ivz iaz Kz RN_125 mvN_125 (by omega) hw2 h412 (Nat.lt_succ_self _) _ _ hI _ (lv_sub hl [1, 2, 0] rfl)
      refine lv_iconst (v := 0) hxR hbR dX5_findWays_129 (by decide) ?_
      refine lv_istore (lv' := [(4, .int 0), (3, .ref (adb_125 45)), (2, .int (nI m)), (0, .ref (ad 45)), (1, .int (nI S))]) hxR hbR dX5_findWays_130 hl (by decide) rfl (fun ls hl => ?_)
      have lp_132 : ∀ (fu : Nat) (k : Nat) (Kx : Nat → Nat → Int32), (k ≤ c) → (Kx = wyK K (prL K S n) m k) → c - k < fu → ∀ (H : Heap) (locs : List Loc), wI E AR sR H locs (mW E ad kp (some (adb_125 45)) (va_up (va_up iv 42 (nI c)) 43 0) (va_up (va_up (va_up ia 39 p39) 40 p40) 41 p41) K R mv ++ (mW E adb_125 kpN_125 trN_125 ivN_125 iaN_125 Kx RN_125 mvN_125)) → ∀ ls : Array Slot, lv_has ls 5 [(0, .ref (ad 45)), (1, .int (nI S)), (2, .int (nI m)), (3, .ref (adb_125 45)), (4, .int (nI k))] → W pR l eR (rmF 20 38 1946) sR mR aR bR tR cR H locs 38 1946 QR (F0 mR 132 ls []) := by
        intro fu
        induction fu with
        | zero =>
          intro k Kx hk hKx hfu
          exact absurd hfu (Nat.not_lt_zero _)
        | succ fu ih_132 =>
          intro k Kx hk hKx hfu H locs hI ls hl
          refine lv_iload hxR hbR dX5_findWays_132 (lv_at hl 4 rfl) ?_
          refine lv_aload_n hxR hbR dX5_findWays_134 rfl (lv_at hl 0 rfl) ?_
          refine r_get hxR hbR hts hown hK hI okX5 (ci := 5) rfl 16 (he_l mW_o) 42 (by decide) q1520 rfl (v := .int (nI c)) (al (up_n (by decide) va_up_s)) dX5_findWays_135 ?_
          refine lv_icmp_ge (tgt := 175) hxR hbR dX5_findWays_138 (by decide) (fun c_138 => ?_) (fun c_138 => ?_)
          · skip
            have c_138 : c ≤ k := (n_le (a := c) (b := k) (by omega) (by omega)).mp c_138
            have hkc : k = (prL K S n).length := by omega
            refine lv_aload_n hxR hbR dX5_findWays_175 rfl (lv_at hl 3 rfl) ?_
            refine lv_iload_n hxR hbR dX5_findWays_176 rfl (lv_at hl 1 rfl) ?_
            refine kVI (n := 1) (As := [.int (nI S)]) (rest := []) (fun w => (mW E ad kp (some (adb_125 45)) (va_up (va_up iv 42 (nI c)) 43 0) (va_up (va_up (va_up ia 39 p39) 40 p40) 41 p41) K R mv) ++ w) hxR hbR hmlR hts hown hK hA hl.1 (isCtx.pre _) hI (c5_groupsOf l E adb_125 kpN_125 trN_125 ivN_125 iaN_125 Kx RN_125 mvN_125 n st S (Eq.trans hv10_125 hn) (Eq.trans hv14_125 hst) (by omega) (by first | omega | with_reducible assumption) (by first | omega | with_reducible assumption)) (lw_V q1874 q1876 qs65 q86 q1877) ⟨rfl, by decide +kernel⟩ 16 5 rfl rfl mW_o rfl (Nat.le_of_ble_eq_true rfl) (Nat.le_of_ble_eq_true rfl) ⟨Nat.le_of_ble_eq_true rfl, Nat.le_of_ble_eq_true rfl⟩ (Nat.le_of_ble_eq_true rfl) dX5_findWays_177 (fun r_177 u H locs hp hI hz => ?_)
            have hI : wI E AR sR H locs (mW E ad kp (some (adb_125 45)) (va_up (va_up iv 42 (nI c)) 43 0) (va_up (va_up (va_up ia 39 p39) 40 p40) 41 p41) K R mv ++ (mW E adb_125 kpN_125 trN_125 (va_up ivN_125 30 (nI ((GL Kx n st).length))) (va_up iaN_125 29 (wrL (iaN_125 29) 0 (GL Kx n st))) Kx RN_125 mvN_125)) := hI
            have hp : r_177 = nI (cntL S (GL Kx n st)) := hp
            have hr_177 := hp
            subst hr_177
            have hcl := cntL_le S (GL Kx n st)
            have hgl := GL_len (K := Kx) (n := n) (st := st) (by omega) hs4
            refine lv_if_ne (tgt := 227) hxR hbR dX5_findWays_180 (by decide) (fun c_180 => ?_) (fun c_180 => ?_)
            · skip
              have c_180 : ¬ (cntL S (GL Kx n st)) = 0 := fun zz => c_180 ((n_eq (a := (cntL S (GL Kx n st))) (b := 0) (by omega) (by omega)).mpr zz)
              exact cut_227 0 p41 (va_up ivN_125 30 (nI ((GL Kx n st).length))) (va_up iaN_125 29 (wrL (iaN_125 29) 0 (GL Kx n st))) Kx (by first | (rw [wyN, if_neg (wyO_f hKx hkc c_180), ← hw]; try rfl) | (rw [wyN, if_pos (wyO_t hKx hkc c_180), ← hw]; try rfl)) (by first | (intro z hz; rw [wyC, if_neg (wyO_f hKx hkc c_180)]; exact h41 z hz) | (intro z hz; exact h41a z (by omega))) _ _ hI _ (lv_sub hl [0, 1, 2] rfl)
            · skip
              have c_180 : (cntL S (GL Kx n st)) = 0 := (n_eq (a := (cntL S (GL Kx n st))) (b := 0) (by omega) (by omega)).mp c_180
              refine lv_aload_n hxR hbR dX5_findWays_183 rfl (lv_at hl 0 rfl) ?_
              refine lv_dup hxR hbR dX5_findWays_184 rfl ?_
              refine r_get hxR hbR hts hown hK hI okX5 (ci := 5) rfl 16 (he_l mW_o) 43 (by decide) q1521 rfl (v := .int 0) (al va_up_s) dX5_findWays_185 ?_
              refine lv_iconst (v := 1) hxR hbR dX5_findWays_188 (by decide) ?_
              refine lv_iadd hxR hbR dX5_findWays_189 ?_
              refine lv_as (y := nI (0 + 1)) (nI_add 0 1) ?_
              refine r_put (v := .int (nI (0 + 1))) (ws1 := mW E ad kp (some (adb_125 45)) (va_up (va_up iv 42 (nI c)) 43 (nI (0 + 1))) (va_up (va_up (va_up ia 39 p39) 40 p40) 41 p41) K R mv ++ (mW E adb_125 kpN_125 trN_125 (va_up ivN_125 30 (nI ((GL Kx n st).length))) (va_up iaN_125 29 (wrL (iaN_125 29) 0 (GL Kx n st))) Kx RN_125 mvN_125)) hxR hbR hts hown hK hI okX5 (ci := 5) rfl 16 (he_l mW_o) 43 (by decide) q1521 rfl rfl rfl rfl (Nat.le_of_ble_eq_true rfl) (hw_l (Nat.le_of_ble_eq_true rfl) (Eq.trans mW_i43 (mW_c1 up_0))) dX5_findWays_190 (fun H locs hI => ?_)
              refine lv_iconst (v := 0) hxR hbR dX5_findWays_193 (by decide) ?_
              refine lv_istore (lv' := [(4, .int 0), (0, .ref (ad 45)), (1, .int (nI S)), (2, .int (nI m)), (3, .ref (adb_125 45))]) hxR hbR dX5_findWays_194 hl (by decide) rfl (fun ls hl => ?_)
              have lp_196 : ∀ (fu : Nat) (k : Nat) (s41 : Nat → Int32), (k ≤ c) → (∀ z, z < k → s41 z = nI (wyC K S n st z (m + 1))) → (∀ z, k ≤ z → z < (prL K S n).length → s41 z = nI (wyC K S n st z m)) → c - k < fu → ∀ (H : Heap) (locs : List Loc), wI E AR sR H locs (mW E ad kp (some (adb_125 45)) (va_up (va_up iv 42 (nI c)) 43 (nI (0 + 1))) (va_up (va_up (va_up ia 39 p39) 40 p40) 41 s41) K R mv ++ (mW E adb_125 kpN_125 trN_125 (va_up ivN_125 30 (nI ((GL Kx n st).length))) (va_up iaN_125 29 (wrL (iaN_125 29) 0 (GL Kx n st))) Kx RN_125 mvN_125)) → ∀ ls : Array Slot, lv_has ls 5 [(0, .ref (ad 45)), (1, .int (nI S)), (2, .int (nI m)), (3, .ref (adb_125 45)), (4, .int (nI k))] → W pR l eR (rmF 20 38 1946) sR mR aR bR tR cR H locs 38 1946 QR (F0 mR 196 ls []) := by
                intro fu
                induction fu with
                | zero =>
                  intro k s41 hk2 h41a h41b hfu
                  exact absurd hfu (Nat.not_lt_zero _)
                | succ fu ih_196 =>
                  intro k s41 hk2 h41a h41b hfu H locs hI ls hl
                  refine lv_iload hxR hbR dX5_findWays_196 (lv_at hl 4 rfl) ?_
                  refine lv_aload_n hxR hbR dX5_findWays_198 rfl (lv_at hl 0 rfl) ?_
                  refine r_get hxR hbR hts hown hK hI okX5 (ci := 5) rfl 16 (he_l mW_o) 42 (by decide) q1520 rfl (v := .int (nI c)) (al (up_n (by decide) va_up_s)) dX5_findWays_199 ?_
                  refine lv_icmp_ge (tgt := 227) hxR hbR dX5_findWays_202 (by decide) (fun c_202 => ?_) (fun c_202 => ?_)
                  · skip
                    have c_202 : c ≤ k := (n_le (a := c) (b := k) (by omega) (by omega)).mp c_202
                    exact cut_227 (0 + 1) s41 (va_up ivN_125 30 (nI ((GL Kx n st).length))) (va_up iaN_125 29 (wrL (iaN_125 29) 0 (GL Kx n st))) Kx (by first | (rw [wyN, if_neg (wyO_f hKx hkc c_180), ← hw]; try rfl) | (rw [wyN, if_pos (wyO_t hKx hkc c_180), ← hw]; try rfl)) (by first | (intro z hz; rw [wyC, if_neg (wyO_f hKx hkc c_180)]; exact h41 z hz) | (intro z hz; exact h41a z (by omega))) _ _ hI _ (lv_sub hl [0, 1, 2] rfl)
                  · skip
                    have c_202 : k < c := Nat.lt_of_not_le (fun zz => c_202 ((n_le (a := c) (b := k) (by omega) (by omega)).mpr zz))
                    refine lv_aload_n hxR hbR dX5_findWays_205 rfl (lv_at hl 0 rfl) ?_
                    refine r_get hxR hbR hts hown hK hI okX5 (ci := 5) rfl 16 (he_l mW_o) 41 (by decide) q1519 rfl (v := .ref (ad 41)) rfl dX5_findWays_206 ?_
                    refine lv_iload hxR hbR dX5_findWays_209 (lv_at hl 4 rfl) ?_
                    refine lv_dup2_11 hxR hbR dX5_findWays_211 rfl rfl ?_
                    refine r_iald hxR hbR hK hI 37 (n := 10) (J := k) (f := s41) (v := nI (wyC K S n st k m)) (he_l (mW_g41 va_up_s)) (by omega) (by decide) (h41b _ (Nat.le_refl _) (by omega)) dX5_findWays_212 ?_
                    refine lv_iload_n hxR hbR dX5_findWays_213 rfl (lv_at hl 2 rfl) ?_
                    refine lv_iload hxR hbR dX5_findWays_214 (lv_at hl 4 rfl) ?_
                    refine lv_ishr hxR hbR dX5_findWays_216 ?_
                    refine lv_as (y := nI (m >>> k)) (nb_shr m k (by omega) (by omega)) ?_
                    refine lv_iconst (v := 1) hxR hbR dX5_findWays_217 (by decide) ?_
                    refine lv_iand hxR hbR dX5_findWays_218 ?_
                    refine lv_as (y := nI ((m >>> k) &&& 1)) (nb_and (m >>> k) 1) ?_
                    refine lv_iadd hxR hbR dX5_findWays_219 ?_
                    refine lv_as (y := nI ((wyC K S n st k m) + ((m >>> k) &&& 1))) (nI_add (wyC K S n st k m) ((m >>> k) &&& 1)) ?_
                    refine r_iast (ws1 := mW E ad kp (some (adb_125 45)) (va_up (va_up iv 42 (nI c)) 43 (nI (0 + 1))) (va_up (va_up (va_up ia 39 p39) 40 p40) 41 (va_up s41 k (nI ((wyC K S n st k m) + ((m >>> k) &&& 1))))) K R mv ++ (mW E adb_125 kpN_125 trN_125 (va_up ivN_125 30 (nI ((GL Kx n st).length))) (va_up iaN_125 29 (wrL (iaN_125 29) 0 (GL Kx n st))) Kx RN_125 mvN_125)) hxR hbR hK hI 37 (n := 10) (J := k) (f := s41) (he_l (mW_g41 va_up_s)) (by omega) (by decide) (hw_l (Nat.le_of_ble_eq_true rfl) (Eq.trans mW_a41 (mW_c2 up_0))) dX5_findWays_220 (fun H locs hI => ?_)
                    refine lv_iinc (v := nI (k + 1)) (lv' := [(4, .int (nI (k + 1))), (0, .ref (ad 45)), (1, .int (nI S)), (2, .int (nI m)), (3, .ref (adb_125 45))]) hxR hbR dX5_findWays_221 hl (k := 4) rfl (show nI k + 1 = nI (k + 1) from nI_add _ 1) (by decide) rfl (fun ls hl => ?_)
                    refine lv_goto (tgt := 196) hxR hbR dX5_findWays_224 (by decide) ?_
                    exact ih_196 (k + 1) (va_up s41 k (nI ((wyC K S n st k m) + ((m >>> k) &&& 1)))) (by first | omega | with_reducible assumption) (wyC_a h41a (wyO_t hKx hkc c_180)) (wyC_b h41b) (by omega) _ _ hI _ (lv_sub hl [1, 2, 3, 4, 0] rfl)
              exact lp_196 _ 0 p41 (by first | omega | with_reducible assumption) (fun z hz => absurd hz (Nat.not_lt_zero _)) (fun z _ hz => h41 z hz) (Nat.lt_succ_self _) _ _ hI _ (lv_sub hl [1, 2, 3, 4, 0] rfl)
          · skip
            have c_138 : k < c := Nat.lt_of_not_le (fun zz => c_138 ((n_le (a := c) (b := k) (by omega) (by omega)).mpr zz))
            refine lv_iload_n hxR hbR dX5_findWays_141 rfl (lv_at hl 2 rfl) ?_
            refine lv_iload hxR hbR dX5_findWays_142 (lv_at hl 4 rfl) ?_
            refine lv_ishr hxR hbR dX5_findWays_144 ?_
            refine lv_as (y := nI (m >>> k)) (nb_shr m k (by omega) (by omega)) ?_
            refine lv_iconst (v := 1) hxR hbR dX5_findWays_145 (by decide) ?_
            refine lv_iand hxR hbR dX5_findWays_146 ?_
            refine lv_as (y := nI ((m >>> k) &&& 1)) (nb_and (m >>> k) 1) ?_
            refine lv_if_eq (tgt := 169) hxR hbR dX5_findWays_147 (by decide) (fun c_147 => ?_) (fun c_147 => ?_)
            · skip
              have c_147 : ((m >>> k) &&& 1) = 0 := (n_eq (a := ((m >>> k) &&& 1)) (b := 0) (by have : m >>> k &&& 1 ≤ 1 := Nat.and_le_right; omega) (by decide)).mp c_147
              refine lv_iinc (v := nI (k + 1)) (lv' := [(4, .int (nI (k + 1))), (0, .ref (ad 45)), (1, .int (nI S)), (2, .int (nI m)), (3, .ref (adb_125 45))]) hxR hbR dX5_findWays_169 hl (k := 4) rfl (show nI k + 1 = nI (k + 1) from nI_add _ 1) (by decide) rfl (fun ls hl => ?_)
              refine lv_goto (tgt := 132) hxR hbR dX5_findWays_172 (by decide) ?_
              exact ih_132 (k + 1) Kx (by first | omega | with_reducible assumption) (by first | exact wyK_0 c_147 hKx | exact wyK_1 c_147 hKx) (by omega) _ _ hI _ (lv_sub hl [1, 2, 3, 4, 0] rfl)
            · skip
              have c_147 : ¬ ((m >>> k) &&& 1) = 0 := fun zz => c_147 ((n_eq (a := ((m >>> k) &&& 1)) (b := 0) (by have : m >>> k &&& 1 ≤ 1 := Nat.and_le_right; omega) (by decide)).mpr zz)
              have hmem := prI_mem (pget_mem (L := (prL K S n)) (k := k) (by omega))
              refine lv_aload_n hxR hbR dX5_findWays_150 rfl (lv_at hl 3 rfl) ?_
              refine lv_aload_n hxR hbR dX5_findWays_151 rfl (lv_at hl 0 rfl) ?_
              refine r_get hxR hbR hts hown hK hI okX5 (ci := 5) rfl 16 (he_l mW_o) 39 (by decide) q1517 rfl (v := .ref (ad 39)) rfl dX5_findWays_152 ?_
              refine lv_iload hxR hbR dX5_findWays_155 (lv_at hl 4 rfl) ?_
              refine r_iald hxR hbR hK hI 35 (n := 10) (J := k) (f := p39) (v := nI (((prL K S n).getD k (0, 0)).1)) (he_l (mW_g39 (up_n (by decide) (up_n (by decide) va_up_s)))) (by omega) (by decide) (hPA _ (by omega)).1 dX5_findWays_157 ?_
              refine lv_aload_n hxR hbR dX5_findWays_158 rfl (lv_at hl 0 rfl) ?_
              refine r_get hxR hbR hts hown hK hI okX5 (ci := 5) rfl 16 (he_l mW_o) 40 (by decide) q1518 rfl (v := .ref (ad 40)) rfl dX5_findWays_159 ?_
              refine lv_iload hxR hbR dX5_findWays_162 (lv_at hl 4 rfl) ?_
              refine r_iald hxR hbR hK hI 36 (n := 10) (J := k) (f := p40) (v := nI (((prL K S n).getD k (0, 0)).2)) (he_l (mW_g40 (up_n (by decide) va_up_s))) (by omega) (by decide) (hPA _ (by omega)).2.1 dX5_findWays_164 ?_
              refine lv_iconst (v := 0) hxR hbR dX5_findWays_165 (by decide) ?_
              refine kVV (n := 3) (As := [.int (nI (((prL K S n).getD k (0, 0)).1)), .int (nI (((prL K S n).getD k (0, 0)).2)), .int 0]) (rest := []) (fun w => (mW E ad kp (some (adb_125 45)) (va_up (va_up iv 42 (nI c)) 43 0) (va_up (va_up (va_up ia 39 p39) 40 p40) 41 p41) K R mv) ++ w) hxR hbR hmlR hts hown hK hA hl.1 (isCtx.pre _) hI (c5_knows l E adb_125 kpN_125 trN_125 ivN_125 iaN_125 Kx RN_125 mvN_125 (((prL K S n).getD k (0, 0)).1) (((prL K S n).getD k (0, 0)).2) 0 (by first | omega | with_reducible assumption) (by first | omega | with_reducible assumption)) (lw_V q1737 q1739 qs49 q86 q1740) ⟨rfl, by decide +kernel⟩ 16 5 rfl rfl mW_o rfl (Nat.le_of_ble_eq_true rfl) (Nat.le_of_ble_eq_true rfl) ⟨Nat.le_of_ble_eq_true rfl, Nat.le_of_ble_eq_true rfl⟩ (Nat.le_of_ble_eq_true rfl) dX5_findWays_166 (fun u H locs hp hI hz => ?_)
              have hI : wI E AR sR H locs (mW E ad kp (some (adb_125 45)) (va_up (va_up iv 42 (nI c)) 43 0) (va_up (va_up (va_up ia 39 p39) 40 p40) 41 p41) K R mv ++ (mW E adb_125 kpN_125 trN_125 ivN_125 iaN_125 (knF Kx (((prL K S n).getD k (0, 0)).1) (((prL K S n).getD k (0, 0)).2) 0) RN_125 mvN_125)) := hI
              refine lv_iinc (v := nI (k + 1)) (lv' := [(4, .int (nI (k + 1))), (0, .ref (ad 45)), (1, .int (nI S)), (2, .int (nI m)), (3, .ref (adb_125 45))]) hxR hbR dX5_findWays_169 hl (k := 4) rfl (show nI k + 1 = nI (k + 1) from nI_add _ 1) (by decide) rfl (fun ls hl => ?_)
              refine lv_goto (tgt := 132) hxR hbR dX5_findWays_172 (by decide) ?_
              exact ih_132 (k + 1) (knF Kx (((prL K S n).getD k (0, 0)).1) (((prL K S n).getD k (0, 0)).2) 0) (by first | omega | with_reducible assumption) (by first | exact wyK_0 c_147 hKx | exact wyK_1 c_147 hKx) (by omega) _ _ hI _ (lv_sub hl [1, 2, 3, 4, 0] rfl)
      exact lp_132 _ 0 K (by first | omega | with_reducible assumption) rfl (Nat.lt_succ_self _) _ _ hI _ (lv_sub hl [3, 4, 2, 1, 0] rfl)
  refine lv_iconst (v := 0) hxR hbR dX5_findWays_5 (by decide) ?_
  refine lv_istore_n (lv' := [(2, .int 0), (0, .ref (ad 45)), (1, .int (nI S))]) hxR hbR dX5_findWays_6 rfl hl (by decide) rfl (fun ls hl => ?_)
  have lp_7 : ∀ (fu : Nat) (i : Nat) (c : Nat) (p39 : Nat → Int32) (p40 : Nat → Int32) (p41 : Nat → Int32), (i ≤ n) → (c = (prI (prM K S) n i).length) → (prA (prI (prM K S) n i) p39 p40 p41) → n - i < fu → ∀ (H : Heap) (locs : List Loc), wI E AR sR H locs (mW E ad kp (oT ob) (va_up iv 42 (nI c)) (va_up (va_up (va_up ia 39 p39) 40 p40) 41 p41) K R mv ++ (oM E ob kpb trb ivb iab Kb Rb mvb)) → ∀ ls : Array Slot, lv_has ls 5 [(0, .ref (ad 45)), (1, .int (nI S)), (2, .int (nI i))] → W pR l eR (rmF 20 38 1946) sR mR aR bR tR cR H locs 0 0 QR (F0 mR 7 ls []) := by
    intro fu
    induction fu with
    | zero =>
      intro i c p39 p40 p41 hi hc hPA hfu
      exact absurd hfu (Nat.not_lt_zero _)
    | succ fu ih_7 =>
      intro i c p39 p40 p41 hi hc hPA hfu H locs hI ls hl
      refine lv_iload_n hxR hbR dX5_findWays_7 rfl (lv_at hl 2 rfl) ?_
      refine lv_aload_n hxR hbR dX5_findWays_8 rfl (lv_at hl 0 rfl) ?_
      refine r_get hxR hbR hts hown hK hI okX5 (ci := 5) rfl 16 (he_l mW_o) 10 (by decide) q1488 rfl (v := .int (nI n)) (al (up_n (by decide) hn)) dX5_findWays_9 ?_
      refine lv_icmp_ge (tgt := 107) hxR hbR dX5_findWays_12 (by decide) (fun c_12 => ?_) (fun c_12 => ?_)
      · skip
        have c_12 : n ≤ i := (n_le (a := n) (b := i) (by omega) (by omega)).mp c_12
        exact cut_107 c p39 p40 p41 (by rw [hc, show i = n by omega]; rfl) (by rw [show i = n by omega] at hPA; exact hPA) _ _ hI _ (lv_sub hl [0, 1] rfl)
      · skip
        have c_12 : i < n := Nat.lt_of_not_le (fun zz => c_12 ((n_le (a := n) (b := i) (by omega) (by omega)).mpr zz))
        refine lv_iload_n hxR hbR dX5_findWays_15 rfl (lv_at hl 2 rfl) ?_
        refine lv_iconst (v := 1) hxR hbR dX5_findWays_16 (by decide) ?_
        refine lv_iadd hxR hbR dX5_findWays_17 ?_
        refine lv_as (y := nI (i + 1)) (nI_add i 1) ?_
        refine lv_istore_n (lv' := [(3, .int (nI (i + 1))), (0, .ref (ad 45)), (1, .int (nI S)), (2, .int (nI i))]) hxR hbR dX5_findWays_18 rfl hl (by decide) rfl (fun ls hl => ?_)
        have lp_19 : ∀ (fu : Nat) (j : Nat) (c2 : Nat) (q39 : Nat → Int32) (q40 : Nat → Int32) (q41 : Nat → Int32), (i < j ∧ j ≤ n) → (c2 = (prI (prM K S) n i ++ prJ (prM K S) i j).length) → (prA (prI (prM K S) n i ++ prJ (prM K S) i j) q39 q40 q41) → n - j < fu → ∀ (H : Heap) (locs : List Loc), wI E AR sR H locs (mW E ad kp (oT ob) (va_up iv 42 (nI c2)) (va_up (va_up (va_up ia 39 q39) 40 q40) 41 q41) K R mv ++ (oM E ob kpb trb ivb iab Kb Rb mvb)) → ∀ ls : Array Slot, lv_has ls 5 [(0, .ref (ad 45)), (1, .int (nI S)), (2, .int (nI i)), (3, .int (nI j))] → W pR l eR (rmF 20 38 1946) sR mR aR bR tR cR H locs 0 0 QR (F0 mR 19 ls []) := by
          intro fu
          induction fu with
          | zero =>
            intro j c2 q39 q40 q41 hj hc2 hPA2 hfu
            exact absurd hfu (Nat.not_lt_zero _)
          | succ fu ih_19 =>
            intro j c2 q39 q40 q41 hj hc2 hPA2 hfu H locs hI ls hl
            refine lv_iload_n hxR hbR dX5_findWays_19 rfl (lv_at hl 3 rfl) ?_
            refine lv_aload_n hxR hbR dX5_findWays_20 rfl (lv_at hl 0 rfl) ?_
            refine r_get hxR hbR hts hown hK hI okX5 (ci := 5) rfl 16 (he_l mW_o) 10 (by decide) q1488 rfl (v := .int (nI n)) (al (up_n (by decide) hn)) dX5_findWays_21 ?_
            refine lv_icmp_ge (tgt := 101) hxR hbR dX5_findWays_24 (by decide) (fun c_24 => ?_) (fun c_24 => ?_)
            · skip
              have c_24 : n ≤ j := (n_le (a := n) (b := j) (by omega) (by omega)).mp c_24
              refine lv_iinc (v := nI (i + 1)) (lv' := [(2, .int (nI (i + 1))), (0, .ref (ad 45)), (1, .int (nI S)), (3, .int (nI j))]) hxR hbR dX5_findWays_101 hl (k := 2) rfl (show nI i + 1 = nI (i + 1) from nI_add _ 1) (by decide) rfl (fun ls hl => ?_)
              refine lv_goto (tgt := 7) hxR hbR dX5_findWays_104 (by decide) ?_
              exact ih_7 (i + 1) c2 q39 q40 q41 (by first | omega | with_reducible assumption) (by rw [hc2, show j = n by omega]; rfl) (by rw [show j = n by omega] at hPA2; exact hPA2) (by omega) _ _ hI _ (lv_sub hl [1, 2, 0] rfl)
            · skip
              have c_24 : j < n := Nat.lt_of_not_le (fun zz => c_24 ((n_le (a := n) (b := j) (by omega) (by omega)).mpr zz))
              refine lv_iload_n hxR hbR dX5_findWays_27 rfl (lv_at hl 1 rfl) ?_
              refine lv_iload_n hxR hbR dX5_findWays_28 rfl (lv_at hl 2 rfl) ?_
              refine kSI (n := 2) (As := [.int (nI S), .int (nI i)]) (rest := []) (fun w => w ++ (mW E ad kp (oT ob) (va_up iv 42 (nI c2)) (va_up (va_up (va_up ia 39 q39) 40 q40) 41 q41) K R mv ++ (oM E ob kpb trb ivb iab Kb Rb mvb))) hxR hbR hmlR hts hown hK hA hl.1 (isCtx.suf _) hI (c5_has l E  S i (by first | omega | with_reducible assumption) (by first | omega | with_reducible assumption)) (lw_S q1680 q1681 q86 q1682) (by decide +kernel) rfl (Nat.le_of_ble_eq_true rfl) (Nat.le_of_ble_eq_true rfl) ⟨Nat.le_of_ble_eq_true rfl, Nat.le_of_ble_eq_true rfl⟩ (Nat.le_of_ble_eq_true rfl) dX5_findWays_29 (fun r_29 u H locs hp hI hz => ?_)
              have hI : wI E AR sR H locs (mW E ad kp (oT ob) (va_up iv 42 (nI c2)) (va_up (va_up (va_up ia 39 q39) 40 q40) 41 q41) K R mv ++ (oM E ob kpb trb ivb iab Kb Rb mvb)) := hI
              have hp : r_29 = b2i (S.testBit i) := hp
              have hr_29 := hp
              rcases b2i_cases hr_29 with ⟨c_29, rfl⟩ | ⟨c_29, rfl⟩
              · skip
                have c_29 : S.testBit i = true := c_29
                refine lv_if_eq (tgt := 95) hxR hbR dX5_findWays_32 (by decide) (fun c => absurd c (by decide)) (fun _ => ?_)
                refine lv_iload_n hxR hbR dX5_findWays_35 rfl (lv_at hl 1 rfl) ?_
                refine lv_iload_n hxR hbR dX5_findWays_36 rfl (lv_at hl 3 rfl) ?_
                refine kSI (n := 2) (As := [.int (nI S), .int (nI j)]) (rest := []) (fun w => w ++ (mW E ad kp (oT ob) (va_up iv 42 (nI c2)) (va_up (va_up (va_up ia 39 q39) 40 q40) 41 q41) K R mv ++ (oM E ob kpb trb ivb iab Kb Rb mvb))) hxR hbR hmlR hts hown hK hA hl.1 (isCtx.suf _) hI (c5_has l E  S j (by first | omega | with_reducible assumption) (by first | omega | with_reducible assumption)) (lw_S q1680 q1681 q86 q1682) (by decide +kernel) rfl (Nat.le_of_ble_eq_true rfl) (Nat.le_of_ble_eq_true rfl) ⟨Nat.le_of_ble_eq_true rfl, Nat.le_of_ble_eq_true rfl⟩ (Nat.le_of_ble_eq_true rfl) dX5_findWays_37 (fun r_37 u H locs hp hI hz => ?_)
                have hI : wI E AR sR H locs (mW E ad kp (oT ob) (va_up iv 42 (nI c2)) (va_up (va_up (va_up ia 39 q39) 40 q40) 41 q41) K R mv ++ (oM E ob kpb trb ivb iab Kb Rb mvb)) := hI
                have hp : r_37 = b2i (S.testBit j) := hp
                have hr_37 := hp
                rcases b2i_cases hr_37 with ⟨c_37, rfl⟩ | ⟨c_37, rfl⟩
                · skip
                  have c_37 : S.testBit j = true := c_37
                  refine lv_if_eq (tgt := 95) hxR hbR dX5_findWays_40 (by decide) (fun c => absurd c (by decide)) (fun _ => ?_)
                  refine lv_aload_n hxR hbR dX5_findWays_43 rfl (lv_at hl 0 rfl) ?_
                  refine r_get hxR hbR hts hown hK hI okX5 (ci := 5) rfl 16 (he_l mW_o) 13 (by decide) q1491 rfl (v := .ref (ad 13)) rfl dX5_findWays_44 ?_
                  refine lv_iload_n hxR hbR dX5_findWays_47 rfl (lv_at hl 2 rfl) ?_
                  refine r_aald hxR hbR hK hI 28 2 (r := ad (50 + i)) rfl rfl (n := 8) (J := i) (he_l rfl) (by omega) (by decide) rfl dX5_findWays_48 ?_
                  refine lv_iload_n hxR hbR dX5_findWays_49 rfl (lv_at hl 3 rfl) ?_
                  refine r_iald hxR hbR hK hI i (n := 8) (J := j) (f := K i) (v := (K i) j) (he_l (mW_K i (by omega))) (by omega) (by decide) rfl dX5_findWays_50 ?_
                  refine lv_iconst (v := (-1)) hxR hbR dX5_findWays_51 (by decide) ?_
                  refine lv_icmp_ne (tgt := 95) hxR hbR dX5_findWays_52 (by decide) (fun c_52 => ?_) (fun c_52 => ?_)
                  · skip
                    refine lv_iinc (v := nI (j + 1)) (lv' := [(3, .int (nI (j + 1))), (0, .ref (ad 45)), (1, .int (nI S)), (2, .int (nI i))]) hxR hbR dX5_findWays_95 hl (k := 3) rfl (show nI j + 1 = nI (j + 1) from nI_add _ 1) (by decide) rfl (fun ls hl => ?_)
                    refine lv_goto (tgt := 19) hxR hbR dX5_findWays_98 (by decide) ?_
                    exact ih_19 (j + 1) c2 q39 q40 q41 ⟨by omega, by omega⟩ (by first | (rw [prJ_n (prM_1 c_29)]; exact hc2) | (rw [prJ_n (prM_2 c_37)]; exact hc2) | (rw [prJ_n (prM_3 c_52)]; exact hc2) | (rw [prJ_y hj.1 hM, ← List.append_assoc, List.length_append, ← hc2]; rfl)) (by first | (rw [prJ_n (prM_1 c_29)]; exact hPA2) | (rw [prJ_n (prM_2 c_37)]; exact hPA2) | (rw [prJ_n (prM_3 c_52)]; exact hPA2) | (rw [prJ_y hj.1 hM, ← List.append_assoc, hc2]; exact hPA2.push)) (by omega) _ _ hI _ (lv_sub hl [1, 2, 3, 0] rfl)
                  · skip
                    have hM := prM_y c_29 c_37 c_52
                    have hlt := pr_lt (K := K) (n := n) (i := i) (j := j) (by omega) hb5 hn7 (by omega) (by omega) hj.1 hM
                    rw [← hc2] at hlt
                    refine lv_aload_n hxR hbR dX5_findWays_55 rfl (lv_at hl 0 rfl) ?_
                    refine r_get hxR hbR hts hown hK hI okX5 (ci := 5) rfl 16 (he_l mW_o) 39 (by decide) q1517 rfl (v := .ref (ad 39)) rfl dX5_findWays_56 ?_
                    refine lv_aload_n hxR hbR dX5_findWays_59 rfl (lv_at hl 0 rfl) ?_
                    refine r_get hxR hbR hts hown hK hI okX5 (ci := 5) rfl 16 (he_l mW_o) 42 (by decide) q1520 rfl (v := .int (nI c2)) (al va_up_s) dX5_findWays_60 ?_
                    refine lv_iload_n hxR hbR dX5_findWays_63 rfl (lv_at hl 2 rfl) ?_
                    refine r_iast (ws1 := mW E ad kp (oT ob) (va_up iv 42 (nI c2)) (va_up (va_up (va_up ia 39 (va_up q39 c2 (nI i))) 40 q40) 41 q41) K R mv ++ (oM E ob kpb trb ivb iab Kb Rb mvb)) hxR hbR hK hI 35 (n := 10) (J := c2) (f := q39) (he_l (mW_g39 (up_n (by decide) (up_n (by decide) va_up_s)))) (by omega) (by decide) (hw_l (Nat.le_of_ble_eq_true rfl) (Eq.trans mW_a39 (mW_c2 (up_s (by decide) (up_s (by decide) up_0))))) dX5_findWays_64 (fun H locs hI => ?_)
                    refine lv_aload_n hxR hbR dX5_findWays_65 rfl (lv_at hl 0 rfl) ?_
                    refine r_get hxR hbR hts hown hK hI okX5 (ci := 5) rfl 16 (he_l mW_o) 40 (by decide) q1518 rfl (v := .ref (ad 40)) rfl dX5_findWays_66 ?_
                    refine lv_aload_n hxR hbR dX5_findWays_69 rfl (lv_at hl 0 rfl) ?_
                    refine r_get hxR hbR hts hown hK hI okX5 (ci := 5) rfl 16 (he_l mW_o) 42 (by decide) q1520 rfl (v := .int (nI c2)) (al va_up_s) dX5_findWays_70 ?_
                    refine lv_iload_n hxR hbR dX5_findWays_73 rfl (lv_at hl 3 rfl) ?_
                    refine r_iast (ws1 := mW E ad kp (oT ob) (va_up iv 42 (nI c2)) (va_up (va_up (va_up ia 39 (va_up q39 c2 (nI i))) 40 (va_up q40 c2 (nI j))) 41 q41) K R mv ++ (oM E ob kpb trb ivb iab Kb Rb mvb)) hxR hbR hK hI 36 (n := 10) (J := c2) (f := q40) (he_l (mW_g40 (up_n (by decide) va_up_s))) (by omega) (by decide) (hw_l (Nat.le_of_ble_eq_true rfl) (Eq.trans mW_a40 (mW_c2 (up_s (by decide) up_0)))) dX5_findWays_74 (fun H locs hI => ?_)
                    refine lv_aload_n hxR hbR dX5_findWays_75 rfl (lv_at hl 0 rfl) ?_
                    refine r_get hxR hbR hts hown hK hI okX5 (ci := 5) rfl 16 (he_l mW_o) 41 (by decide) q1519 rfl (v := .ref (ad 41)) rfl dX5_findWays_76 ?_
                    refine lv_aload_n hxR hbR dX5_findWays_79 rfl (lv_at hl 0 rfl) ?_
                    refine r_get hxR hbR hts hown hK hI okX5 (ci := 5) rfl 16 (he_l mW_o) 42 (by decide) q1520 rfl (v := .int (nI c2)) (al va_up_s) dX5_findWays_80 ?_
                    refine lv_iconst (v := 0) hxR hbR dX5_findWays_83 (by decide) ?_
                    refine r_iast (ws1 := mW E ad kp (oT ob) (va_up iv 42 (nI c2)) (va_up (va_up (va_up ia 39 (va_up q39 c2 (nI i))) 40 (va_up q40 c2 (nI j))) 41 (va_up q41 c2 0)) K R mv ++ (oM E ob kpb trb ivb iab Kb Rb mvb)) hxR hbR hK hI 37 (n := 10) (J := c2) (f := q41) (he_l (mW_g41 va_up_s)) (by omega) (by decide) (hw_l (Nat.le_of_ble_eq_true rfl) (Eq.trans mW_a41 (mW_c2 up_0))) dX5_findWays_84 (fun H locs hI => ?_)
                    refine lv_aload_n hxR hbR dX5_findWays_85 rfl (lv_at hl 0 rfl) ?_
                    refine lv_dup hxR hbR dX5_findWays_86 rfl ?_
                    refine r_get hxR hbR hts hown hK hI okX5 (ci := 5) rfl 16 (he_l mW_o) 42 (by decide) q1520 rfl (v := .int (nI c2)) (al va_up_s) dX5_findWays_87 ?_
                    refine lv_iconst (v := 1) hxR hbR dX5_findWays_90 (by decide) ?_
                    refine lv_iadd hxR hbR dX5_findWays_91 ?_
                    refine lv_as (y := nI (c2 + 1)) (nI_add c2 1) ?_
                    refine r_put (v := .int (nI (c2 + 1))) (ws1 := mW E ad kp (oT ob) (va_up iv 42 (nI (c2 + 1))) (va_up (va_up (va_up ia 39 (va_up q39 c2 (nI i))) 40 (va_up q40 c2 (nI j))) 41 (va_up q41 c2 0)) K R mv ++ (oM E ob kpb trb ivb iab Kb Rb mvb)) hxR hbR hts hown hK hI okX5 (ci := 5) rfl 16 (he_l mW_o) 42 (by decide) q1520 rfl rfl rfl rfl (Nat.le_of_ble_eq_true rfl) (hw_l (Nat.le_of_ble_eq_true rfl) (Eq.trans mW_i42 (mW_c1 up_0))) dX5_findWays_92 (fun H locs hI => ?_)
                    refine lv_iinc (v := nI (j + 1)) (lv' := [(3, .int (nI (j + 1))), (0, .ref (ad 45)), (1, .int (nI S)), (2, .int (nI i))]) hxR hbR dX5_findWays_95 hl (k := 3) rfl (show nI j + 1 = nI (j + 1) from nI_add _ 1) (by decide) rfl (fun ls hl => ?_)
                    refine lv_goto (tgt := 19) hxR hbR dX5_findWays_98 (by decide) ?_
                    exact ih_19 (j + 1) (c2 + 1) (va_up q39 c2 (nI i)) (va_up q40 c2 (nI j)) (va_up q41 c2 0) ⟨by omega, by omega⟩ (by first | (rw [prJ_n (prM_1 c_29)]; exact hc2) | (rw [prJ_n (prM_2 c_37)]; exact hc2) | (rw [prJ_n (prM_3 c_52)]; exact hc2) | (rw [prJ_y hj.1 hM, ← List.append_assoc, List.length_append, ← hc2]; rfl)) (by first | (rw [prJ_n (prM_1 c_29)]; exact hPA2) | (rw [prJ_n (prM_2 c_37)]; exact hPA2) | (rw [prJ_n (prM_3 c_52)]; exact hPA2) | (rw [prJ_y hj.1 hM, ← List.append_assoc, hc2]; exact hPA2.push)) (by omega) _ _ hI _ (lv_sub hl [1, 2, 3, 0] rfl)
                · skip
                  have c_37 : S.testBit j = false := c_37
                  refine lv_if_eq (tgt := 95) hxR hbR dX5_findWays_40 (by decide) (fun _ => ?_) (fun c => absurd c (by decide))
                  refine lv_iinc (v := nI (j + 1)) (lv' := [(3, .int (nI (j + 1))), (0, .ref (ad 45)), (1, .int (nI S)), (2, .int (nI i))]) hxR hbR dX5_findWays_95 hl (k := 3) rfl (show nI j + 1 = nI (j + 1) from nI_add _ 1) (by decide) rfl (fun ls hl => ?_)
                  refine lv_goto (tgt := 19) hxR hbR dX5_findWays_98 (by decide) ?_
                  exact ih_19 (j + 1) c2 q39 q40 q41 ⟨by omega, by omega⟩ (by first | (rw [prJ_n (prM_1 c_29)]; exact hc2) | (rw [prJ_n (prM_2 c_37)]; exact hc2) | (rw [prJ_n (prM_3 c_52)]; exact hc2) | (rw [prJ_y hj.1 hM, ← List.append_assoc, List.length_append, ← hc2]; rfl)) (by first | (rw [prJ_n (prM_1 c_29)]; exact hPA2) | (rw [prJ_n (prM_2 c_37)]; exact hPA2) | (rw [prJ_n (prM_3 c_52)]; exact hPA2) | (rw [prJ_y hj.1 hM, ← List.append_assoc, hc2]; exact hPA2.push)) (by omega) _ _ hI _ (lv_sub hl [1, 2, 3, 0] rfl)
              · skip
                have c_29 : S.testBit i = false := c_29
                refine lv_if_eq (tgt := 95) hxR hbR dX5_findWays_32 (by decide) (fun _ => ?_) (fun c => absurd c (by decide))
                refine lv_iinc (v := nI (j + 1)) (lv' := [(3, .int (nI (j + 1))), (0, .ref (ad 45)), (1, .int (nI S)), (2, .int (nI i))]) hxR hbR dX5_findWays_95 hl (k := 3) rfl (show nI j + 1 = nI (j + 1) from nI_add _ 1) (by decide) rfl (fun ls hl => ?_)
                refine lv_goto (tgt := 19) hxR hbR dX5_findWays_98 (by decide) ?_
                exact ih_19 (j + 1) c2 q39 q40 q41 ⟨by omega, by omega⟩ (by first | (rw [prJ_n (prM_1 c_29)]; exact hc2) | (rw [prJ_n (prM_2 c_37)]; exact hc2) | (rw [prJ_n (prM_3 c_52)]; exact hc2) | (rw [prJ_y hj.1 hM, ← List.append_assoc, List.length_append, ← hc2]; rfl)) (by first | (rw [prJ_n (prM_1 c_29)]; exact hPA2) | (rw [prJ_n (prM_2 c_37)]; exact hPA2) | (rw [prJ_n (prM_3 c_52)]; exact hPA2) | (rw [prJ_y hj.1 hM, ← List.append_assoc, hc2]; exact hPA2.push)) (by omega) _ _ hI _ (lv_sub hl [1, 2, 3, 0] rfl)
        exact lp_19 _ (i + 1) c p39 p40 p41 ⟨by omega, by omega⟩ (by rw [prJ_0 (Nat.le_refl _), List.append_nil]; exact hc) (by rw [prJ_0 (Nat.le_refl _), List.append_nil]; exact hPA) (Nat.lt_succ_self _) _ _ hI _ (lv_sub hl [1, 2, 3, 0] rfl)
  exact lp_7 _ 0 0 (ia 39) (ia 40) (ia 41) (by first | omega | with_reducible assumption) rfl prA.nil (Nat.lt_succ_self _) _ _ hI _ (lv_sub hl [1, 2, 0] rfl)
