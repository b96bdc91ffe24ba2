theorem c5_seekEver (l : Launch) (E : En) : ∀ (r : Nat) (ad : Nat → Nat) (kp tr : Option Nat) (iv : Nat → Int32) (ia K : Nat → Nat → Int32) (R : Nat → Nat → Int64) (mv : Nat → Int64) (tq : Nat) (tf : Nat → Int32) (lo : Nat) (so : Option Nat) (L T : List Nat) (i : Nat) (hc : iv 30 = nI L.length) (hL : isL (ia 29) L) (hL35 : L.length ≤ 35) (hlo : iv 37 = nI lo) (hso : iv 38 = soI so) (hr : r = L.length - i) (hi : i ≤ L.length) (hTi : T.length ≤ i) (hT : ∀ j, j < T.length → tf j = nI (T.getD j 0)) (hT8 : ∀ j, j < T.length → T.getD j 0 < 256) (hl35 : lo ≤ 35) (hs35 : soLe so), CtV l E yX5_seekEver cX5_seekEver 6 (r + 2) 0 0 [.ref (ad 45), .int (nI i), .ref tq, .int (nI T.length)] (mW E ad kp tr iv ia K R mv ++ ([(tq, .inl (E.2 0, 40, .inl tf))])) (fun (u : (Nat → Int32)) => ∀ j, j < T.length → u j = tf j) (fun (u : (Nat → Int32)) => mW E ad kp tr (va_up (va_up iv 37 (nI ((seekL L (L.drop i) T (lo, so)).1))) 38 (soI (seekL L (L.drop i) T (lo, so)).2)) ia K R mv ++ ([(tq, .inl (E.2 0, 40, .inl u))])) := by
  intro r
  induction r using Nat.strongRecOn with
  | _ r ih =>
    intro ad kp tr iv ia K R mv tq tf lo so L T i hc hL hL35 hlo hso hr hi hTi hT hT8 hl35 hs35
    refine CtV.of (by decide +kernel) (Nat.le_of_ble_eq_true rfl) ?_
    intro pR eR sR mR aR bR tR cR AR ls QR hxR hbR hmlR hts hown hlk hnm hA hK hI hl hret
    have hl : lv_has ls 6 [(0, .ref (ad 45)), (1, .int (nI i)), (2, .ref tq), (3, .int (nI T.length))] := hl
    refine lv_iload_n hxR hbR dX5_seekEver_0 rfl (lv_at hl 1 rfl) ?_
    refine lv_aload_n hxR hbR dX5_seekEver_1 rfl (lv_at hl 0 rfl) ?_
    refine r_get hxR hbR hts hown hK hI okX5 (ci := 5) rfl 16 (he_l mW_o) 30 (by decide) q1508 rfl (v := .int (nI L.length)) (al hc) dX5_seekEver_2 ?_
    refine lv_icmp_ne (tgt := 110) hxR hbR dX5_seekEver_5 (by decide) (fun c_5 => ?_) (fun c_5 => ?_)
    · skip
      have c_5 : ¬ i = L.length := fun zz => c_5 ((n_eq (a := i) (b := L.length) (by omega) (by omega)).mpr zz)
      refine lv_aload_n hxR hbR dX5_seekEver_110 rfl (lv_at hl 2 rfl) ?_
      refine lv_iload_n hxR hbR dX5_seekEver_111 rfl (lv_at hl 3 rfl) ?_
      refine lv_aload_n hxR hbR dX5_seekEver_112 rfl (lv_at hl 0 rfl) ?_
      refine r_get hxR hbR hts hown hK hI okX5 (ci := 5) rfl 16 (he_l mW_o) 29 (by decide) q1507 rfl (v := .ref (ad 29)) rfl dX5_seekEver_113 ?_
      refine lv_iload_n hxR hbR dX5_seekEver_116 rfl (lv_at hl 1 rfl) ?_
      refine r_iald hxR hbR hK hI 30 (n := 70) (J := i) (f := ia 29) (v := nI (L.getD i 0)) (he_l (mW_g29 rfl)) (by omega) (by decide) (hL.at (by omega)) dX5_seekEver_117 ?_
      refine kSI (n := 3) (As := [.ref tq, .int (nI T.length), .int (nI (L.getD i 0))]) (rest := []) (fun w => w) hxR hbR hmlR hts hown hK hA hl.1 isCtx.id hI (c5_isApart l E (mW E ad kp tr iv ia K R mv ++ ([(tq, .inl (E.2 0, 40, .inl tf))])) tq (38 + 0) tf T (L.getD i 0) (he_r (Nat.le_of_ble_eq_true rfl) (Nat.le_of_ble_eq_true rfl) rfl) hT (by omega) hT8) (lw_S q1962 q1963 q86 q1964) (by decide +kernel) rfl (by omega) (Nat.le_of_ble_eq_true rfl) ⟨Nat.le_of_ble_eq_true rfl, Nat.le_of_ble_eq_true rfl⟩ (Nat.le_of_ble_eq_true rfl) dX5_seekEver_118 (fun r_118 u H locs hp hI hz => ?_)
      have hI : wI E AR sR H locs (mW E ad kp tr iv ia K R mv ++ ([(tq, .inl (E.2 0, 40, .inl tf))])) := hI
      have hr_118 : r_118 = b2i (apartL (L.getD i 0) T) := hp
      rcases b2i_cases hr_118 with ⟨c_118, rfl⟩ | ⟨c_118, rfl⟩
      · skip
        have c_118 : apartL (L.getD i 0) T = true := c_118
        refine lv_if_eq (tgt := 144) hxR hbR dX5_seekEver_121 (by decide) (fun c => absurd c (by decide)) (fun _ => ?_)
        refine lv_aload_n hxR hbR dX5_seekEver_124 rfl (lv_at hl 2 rfl) ?_
        refine lv_iload_n hxR hbR dX5_seekEver_125 rfl (lv_at hl 3 rfl) ?_
        refine lv_aload_n hxR hbR dX5_seekEver_126 rfl (lv_at hl 0 rfl) ?_
        refine r_get hxR hbR hts hown hK hI okX5 (ci := 5) rfl 16 (he_l mW_o) 29 (by decide) q1507 rfl (v := .ref (ad 29)) rfl dX5_seekEver_127 ?_
        refine lv_iload_n hxR hbR dX5_seekEver_130 rfl (lv_at hl 1 rfl) ?_
        refine r_iald hxR hbR hK hI 30 (n := 70) (J := i) (f := ia 29) (v := nI (L.getD i 0)) (he_l (mW_g29 rfl)) (by omega) (by decide) (hL.at (by omega)) dX5_seekEver_131 ?_
        refine r_iast (ws1 := mW E ad kp tr iv ia K R mv ++ ([(tq, .inl (E.2 0, 40, .inl (va_up tf T.length (nI (L.getD i 0)))))])) hxR hbR hK hI (38 + 0) (n := 40) (J := T.length) (f := tf) (he_r (Nat.le_of_ble_eq_true rfl) (Nat.le_of_ble_eq_true rfl) rfl) (by omega) (by decide) (hw_r (Nat.le_of_ble_eq_true rfl) (Nat.le_of_ble_eq_true rfl) rfl) dX5_seekEver_132 (fun H locs hI => ?_)
        refine lv_aload_n hxR hbR dX5_seekEver_133 rfl (lv_at hl 0 rfl) ?_
        refine lv_iload_n hxR hbR dX5_seekEver_134 rfl (lv_at hl 1 rfl) ?_
        refine lv_iconst (v := 1) hxR hbR dX5_seekEver_135 (by decide) ?_
        refine lv_iadd hxR hbR dX5_seekEver_136 ?_
        refine lv_as (y := nI (i + 1)) (nI_add i 1) ?_
        refine lv_aload_n hxR hbR dX5_seekEver_137 rfl (lv_at hl 2 rfl) ?_
        refine lv_iload_n hxR hbR dX5_seekEver_138 rfl (lv_at hl 3 rfl) ?_
        refine lv_iconst (v := 1) hxR hbR dX5_seekEver_139 (by decide) ?_
        refine lv_iadd hxR hbR dX5_seekEver_140 ?_
        refine lv_as (y := nI (T.length + 1)) (nI_add T.length 1) ?_
        refine lv_as (y := nI ((T ++ [L.getD i 0]).length)) (by rw [List.length_append]; rfl) ?_
        refine kVV (n := 3) (As := [.int (nI (i + 1)), .ref tq, .int (nI ((T ++ [L.getD i 0]).length))]) (rest := []) (fun w => w) hxR hbR hmlR hts hown hK hA hl.1 isCtx.id hI (ih (L.length - (i + 1)) (by omega) ad kp tr iv ia K R mv tq (va_up tf T.length (nI (L.getD i 0))) lo so L (T ++ [L.getD i 0]) (i + 1) hc (isL.of rfl hL) (by first | omega | with_reducible assumption) hlo hso rfl (by first | omega | with_reducible assumption) (by rw [List.length_append]; simp only [List.length_singleton]; omega) (tk_s hT) (tk_8 hT8 (hL.lt (by omega))) (by first | omega | with_reducible assumption) hs35) (lw_V q1958 q1960 qs74 q86 q1961) ⟨rfl, by decide +kernel⟩ 16 5 rfl rfl (he_l mW_o) rfl (by omega) (Nat.le_of_ble_eq_true rfl) ⟨Nat.le_of_ble_eq_true rfl, Nat.le_of_ble_eq_true rfl⟩ (Nat.le_of_ble_eq_true rfl) dX5_seekEver_141 (fun u H locs hp hI hz => ?_)
        obtain ⟨tf2_141, rfl⟩ : ∃ z, z = u := ⟨_, rfl⟩
        have hI : wI E AR sR H locs (mW E ad kp tr (va_up (va_up iv 37 (nI ((seekL L (L.drop (i + 1)) (T ++ [L.getD i 0]) (lo, so)).1))) 38 (soI (seekL L (L.drop (i + 1)) (T ++ [L.getD i 0]) (lo, so)).2)) ia K R mv ++ ([(tq, .inl (E.2 0, 40, .inl tf2_141))])) := hI
        have hp : ∀ j, j < (T ++ [L.getD i 0]).length → tf2_141 j = (va_up tf T.length (nI (L.getD i 0))) j := hp
        have htf_141 := hp
        have hle := seekL_le (L := L) (L.drop (i + 1)) (T ++ [L.getD i 0]) (lo, so) (by rw [List.length_append, List.length_drop]; simp only [List.length_singleton]; omega) hl35 hs35
        refine lv_aload_n hxR hbR dX5_seekEver_144 rfl (lv_at hl 0 rfl) ?_
        refine lv_iload_n hxR hbR dX5_seekEver_145 rfl (lv_at hl 1 rfl) ?_
        refine lv_iconst (v := 1) hxR hbR dX5_seekEver_146 (by decide) ?_
        refine lv_iadd hxR hbR dX5_seekEver_147 ?_
        refine lv_as (y := nI (i + 1)) (nI_add i 1) ?_
        refine lv_aload_n hxR hbR dX5_seekEver_148 rfl (lv_at hl 2 rfl) ?_
        refine lv_iload_n hxR hbR dX5_seekEver_149 rfl (lv_at hl 3 rfl) ?_
        refine kVV (n := 3) (As := [.int (nI (i + 1)), .ref tq, .int (nI T.length)]) (rest := []) (fun w => w) hxR hbR hmlR hts hown hK hA hl.1 isCtx.id hI (ih (L.length - (i + 1)) (by omega) ad kp tr (va_up (va_up iv 37 (nI ((seekL L (L.drop (i + 1)) (T ++ [L.getD i 0]) (lo, so)).1))) 38 (soI (seekL L (L.drop (i + 1)) (T ++ [L.getD i 0]) (lo, so)).2)) ia K R mv tq tf2_141 ((seekL L (L.drop (i + 1)) (T ++ [L.getD i 0]) (lo, so)).1) ((seekL L (L.drop (i + 1)) (T ++ [L.getD i 0]) (lo, so)).2) L T (i + 1) (up_n (by decide) (up_n (by decide) hc)) (isL.of rfl hL) (by first | omega | with_reducible assumption) (up_n (by decide) va_up_s) va_up_s rfl (by first | omega | with_reducible assumption) (by first | omega | with_reducible assumption) (by first | exact hT | exact tk_b htf_141 hT) hT8 (by first | exact hl35 | exact hle.1) (by first | exact hs35 | exact hle.2)) (lw_V q1958 q1960 qs74 q86 q1961) ⟨rfl, by decide +kernel⟩ 16 5 rfl rfl (he_l mW_o) rfl (by omega) (Nat.le_of_ble_eq_true rfl) ⟨Nat.le_of_ble_eq_true rfl, Nat.le_of_ble_eq_true rfl⟩ (Nat.le_of_ble_eq_true rfl) dX5_seekEver_150 (fun u H locs hp hI hz => ?_)
        obtain ⟨tf2_150, rfl⟩ : ∃ z, z = u := ⟨_, rfl⟩
        have hI : wI E AR sR H locs (mW E ad kp tr (va_up (va_up (va_up (va_up iv 37 (nI ((seekL L (L.drop (i + 1)) (T ++ [L.getD i 0]) (lo, so)).1))) 38 (soI (seekL L (L.drop (i + 1)) (T ++ [L.getD i 0]) (lo, so)).2)) 37 (nI ((seekL L (L.drop (i + 1)) T (((seekL L (L.drop (i + 1)) (T ++ [L.getD i 0]) (lo, so)).1), ((seekL L (L.drop (i + 1)) (T ++ [L.getD i 0]) (lo, so)).2))).1))) 38 (soI (seekL L (L.drop (i + 1)) T (((seekL L (L.drop (i + 1)) (T ++ [L.getD i 0]) (lo, so)).1), ((seekL L (L.drop (i + 1)) (T ++ [L.getD i 0]) (lo, so)).2))).2)) ia K R mv ++ ([(tq, .inl (E.2 0, 40, .inl tf2_150))])) := hI
        have hI := wI_w (ws' := mW E ad kp tr (va_up (va_up iv 37 (nI ((seekL L (L.drop (i + 1)) T (((seekL L (L.drop (i + 1)) (T ++ [L.getD i 0]) (lo, so)).1), ((seekL L (L.drop (i + 1)) (T ++ [L.getD i 0]) (lo, so)).2))).1))) 38 (soI (seekL L (L.drop (i + 1)) T (((seekL L (L.drop (i + 1)) (T ++ [L.getD i 0]) (lo, so)).1), ((seekL L (L.drop (i + 1)) (T ++ [L.getD i 0]) (lo, so)).2))).2)) ia K R mv ++ ([(tq, .inl (E.2 0, 40, .inl tf2_150))])) (by rw [(show (va_up (va_up iv 37 (nI ((seekL L (L.drop (i + 1)) T (((seekL L (L.drop (i + 1)) (T ++ [L.getD i 0]) (lo, so)).1), ((seekL L (L.drop (i + 1)) (T ++ [L.getD i 0]) (lo, so)).2))).1))) 38 (soI (seekL L (L.drop (i + 1)) T (((seekL L (L.drop (i + 1)) (T ++ [L.getD i 0]) (lo, so)).1), ((seekL L (L.drop (i + 1)) (T ++ [L.getD i 0]) (lo, so)).2))).2)) = (va_up (va_up (va_up (va_up iv 37 (nI ((seekL L (L.drop (i + 1)) (T ++ [L.getD i 0]) (lo, so)).1))) 38 (soI (seekL L (L.drop (i + 1)) (T ++ [L.getD i 0]) (lo, so)).2)) 37 (nI ((seekL L (L.drop (i + 1)) T (((seekL L (L.drop (i + 1)) (T ++ [L.getD i 0]) (lo, so)).1), ((seekL L (L.drop (i + 1)) (T ++ [L.getD i 0]) (lo, so)).2))).1))) 38 (soI (seekL L (L.drop (i + 1)) T (((seekL L (L.drop (i + 1)) (T ++ [L.getD i 0]) (lo, so)).1), ((seekL L (L.drop (i + 1)) (T ++ [L.getD i 0]) (lo, so)).2))).2)) from ((Eq.trans (congrArg (fun z => va_up z 38 (soI (seekL L (L.drop (i + 1)) T (((seekL L (L.drop (i + 1)) (T ++ [L.getD i 0]) (lo, so)).1), ((seekL L (L.drop (i + 1)) (T ++ [L.getD i 0]) (lo, so)).2))).2)) (up_s (by decide) up_0)) up_0)).symm)]) hI
        have hI : wI E AR sR H locs (mW E ad kp tr (va_up (va_up iv 37 (nI ((seekL L (L.drop (i + 1)) T (((seekL L (L.drop (i + 1)) (T ++ [L.getD i 0]) (lo, so)).1), ((seekL L (L.drop (i + 1)) (T ++ [L.getD i 0]) (lo, so)).2))).1))) 38 (soI (seekL L (L.drop (i + 1)) T (((seekL L (L.drop (i + 1)) (T ++ [L.getD i 0]) (lo, so)).1), ((seekL L (L.drop (i + 1)) (T ++ [L.getD i 0]) (lo, so)).2))).2)) ia K R mv ++ ([(tq, .inl (E.2 0, 40, .inl tf2_150))])) := hI
        have hp : ∀ j, j < T.length → tf2_150 j = tf2_141 j := hp
        have htf_150 := hp
        have hI : wI E AR sR H locs (mW E ad kp tr (va_up (va_up iv 37 (nI ((seekL L (L.drop i) T (lo, so)).1))) 38 (soI (seekL L (L.drop i) T (lo, so)).2)) ia K R mv ++ ([(tq, .inl (E.2 0, 40, .inl tf2_150))])) := by first | (rw [seekL_y (by omega) c_118]; exact hI) | (rw [seekL_n (by omega) c_118]; exact hI)
        exact hret tf2_150 _ _ _ _ _ _ dX5_seekEver_153 hI (by show ∀ j, j < T.length → tf2_150 j = tf j; first | exact htf_150 | exact tk_c htf_150 htf_141) (Nat.le_of_ble_eq_true rfl) (Nat.le_of_ble_eq_true rfl)
      · skip
        have c_118 : apartL (L.getD i 0) T = false := c_118
        refine lv_if_eq (tgt := 144) hxR hbR dX5_seekEver_121 (by decide) (fun _ => ?_) (fun c => absurd c (by decide))
        refine lv_aload_n hxR hbR dX5_seekEver_144 rfl (lv_at hl 0 rfl) ?_
        refine lv_iload_n hxR hbR dX5_seekEver_145 rfl (lv_at hl 1 rfl) ?_
        refine lv_iconst (v := 1) hxR hbR dX5_seekEver_146 (by decide) ?_
        refine lv_iadd hxR hbR dX5_seekEver_147 ?_
        refine lv_as (y := nI (i + 1)) (nI_add i 1) ?_
        refine lv_aload_n hxR hbR dX5_seekEver_148 rfl (lv_at hl 2 rfl) ?_
        refine lv_iload_n hxR hbR dX5_seekEver_149 rfl (lv_at hl 3 rfl) ?_
        refine kVV (n := 3) (As := [.int (nI (i + 1)), .ref tq, .int (nI T.length)]) (rest := []) (fun w => w) hxR hbR hmlR hts hown hK hA hl.1 isCtx.id hI (ih (L.length - (i + 1)) (by omega) ad kp tr iv ia K R mv tq tf lo so L T (i + 1) hc (isL.of rfl hL) (by first | omega | with_reducible assumption) hlo hso rfl (by first | omega | with_reducible assumption) (by first | omega | with_reducible assumption) (by first | exact hT | exact tk_b htf_141 hT) hT8 (by first | exact hl35 | exact hle.1) (by first | exact hs35 | exact hle.2)) (lw_V q1958 q1960 qs74 q86 q1961) ⟨rfl, by decide +kernel⟩ 16 5 rfl rfl (he_l mW_o) rfl (by omega) (Nat.le_of_ble_eq_true rfl) ⟨Nat.le_of_ble_eq_true rfl, Nat.le_of_ble_eq_true rfl⟩ (Nat.le_of_ble_eq_true rfl) dX5_seekEver_150 (fun u H locs hp hI hz => ?_)
        obtain ⟨tf2_150, rfl⟩ : ∃ z, z = u := ⟨_, rfl⟩
        have hI : wI E AR sR H locs (mW E ad kp tr (va_up (va_up iv 37 (nI ((seekL L (L.drop (i + 1)) T (lo, so)).1))) 38 (soI (seekL L (L.drop (i + 1)) T (lo, so)).2)) ia K R mv ++ ([(tq, .inl (E.2 0, 40, .inl tf2_150))])) := hI
        have hp : ∀ j, j < T.length → tf2_150 j = tf j := hp
        have htf_150 := hp
        have hI : wI E AR sR H locs (mW E ad kp tr (va_up (va_up iv 37 (nI ((seekL L (L.drop i) T (lo, so)).1))) 38 (soI (seekL L (L.drop i) T (lo, so)).2)) ia K R mv ++ ([(tq, .inl (E.2 0, 40, .inl tf2_150))])) := by first | (rw [seekL_y (by omega) c_118]; exact hI) | (rw [seekL_n (by omega) c_118]; exact hI)
        exact hret tf2_150 _ _ _ _ _ _ dX5_seekEver_153 hI (by show ∀ j, j < T.length → tf2_150 j = tf j; first | exact htf_150 | exact tk_c htf_150 htf_141) (Nat.le_of_ble_eq_true rfl) (Nat.le_of_ble_eq_true rfl)
    · skip
      have c_5 : i = L.length := (n_eq (a := i) (b := L.length) (by omega) (by omega)).mp c_5
      refine lv_iconst (v := 1) hxR hbR dX5_seekEver_8 (by decide) ?_
      refine lv_istore (lv' := [(4, .int 1), (0, .ref (ad 45)), (1, .int (nI i)), (2, .ref tq), (3, .int (nI T.length))]) hxR hbR dX5_seekEver_9 hl (by decide) rfl (fun ls hl => ?_)
      have cut_56 : ∀ (b : Nat), (b = if L.all (fun g => !apartL g T) = true then 1 else 0) → ∀ (H : Heap) (locs : List Loc), wI E AR sR H locs (mW E ad kp tr iv ia K R mv ++ ([(tq, .inl (E.2 0, 40, .inl tf))])) → ∀ ls : Array Slot, lv_has ls 6 [(0, .ref (ad 45)), (1, .int (nI i)), (2, .ref tq), (3, .int (nI T.length)), (4, .int (nI b))] → W pR l eR (rmF (r + 2) 0 0) sR mR aR bR tR cR H locs 0 0 QR (F0 mR 56 ls []) := by
        intro b hbb H locs hI ls hl
        have hb1 := all_b hbb
        refine lv_iload hxR hbR dX5_seekEver_56 (lv_at hl 4 rfl) ?_
        refine lv_if_eq (tgt := 109) hxR hbR dX5_seekEver_58 (by decide) (fun c_58 => ?_) (fun c_58 => ?_)
        · skip
          have c_58 : b = 0 := (n_eq (a := b) (b := 0) (by omega) (by omega)).mp c_58
          have e0 : seekL L (L.drop i) T (lo, so) = (lo, so) := by rw [List.drop_eq_nil_of_le (by omega), seekL_nil, if_neg (all_n hbb c_58)]
          have hI : wI E AR sR H locs (mW E ad kp tr (va_up (va_up iv 37 (nI ((seekL L (L.drop i) T (lo, so)).1))) 38 (soI (seekL L (L.drop i) T (lo, so)).2)) ia K R mv ++ ([(tq, .inl (E.2 0, 40, .inl tf))])) := by first | (rw [e0]; dsimp only; rw [va_up_id (f := iv) (k := 37) (v := nI lo) hlo, va_up_id (f := iv) (k := 38) (v := soI so) hso]; exact hI) | (rw [e1]; dsimp only; rw [so_1 hs35 c_87, show max lo T.length = lo by omega]; exact hI) | (rw [e1]; dsimp only; rw [so_2 hs35 (by omega) c_87 c_95, show max lo T.length = lo by omega]; exact hI) | (rw [e1]; dsimp only; rw [so_3 hs35 (by omega) c_87 c_95, show max lo T.length = lo by omega]; exact hI) | (rw [e1]; dsimp only; rw [so_1 hs35 c_87, show max lo T.length = T.length by omega]; exact hI) | (rw [e1]; dsimp only; rw [so_2 hs35 (by omega) c_87 c_95, show max lo T.length = T.length by omega]; exact hI) | (rw [e1]; dsimp only; rw [so_3 hs35 (by omega) c_87 c_95, show max lo T.length = T.length by omega]; exact hI)
          exact hret tf _ _ _ _ _ _ dX5_seekEver_109 hI (by show ∀ j, j < T.length → tf j = tf j; exact fun j hj => rfl) (Nat.le_of_ble_eq_true rfl) (Nat.le_of_ble_eq_true rfl)
        · skip
          have c_58 : ¬ b = 0 := fun zz => c_58 ((n_eq (a := b) (b := 0) (by omega) (by omega)).mpr zz)
          have e1 : seekL L (L.drop i) T (lo, so) = (max lo T.length, soN so T.length) := by rw [List.drop_eq_nil_of_le (by omega), seekL_nil, if_pos (all_t hbb c_58)]
          refine lv_aload_n hxR hbR dX5_seekEver_61 rfl (lv_at hl 0 rfl) ?_
          refine lv_iload_n hxR hbR dX5_seekEver_62 rfl (lv_at hl 3 rfl) ?_
          refine lv_aload_n hxR hbR dX5_seekEver_63 rfl (lv_at hl 0 rfl) ?_
          refine r_get hxR hbR hts hown hK hI okX5 (ci := 5) rfl 16 (he_l mW_o) 37 (by decide) q1515 rfl (v := .int (nI lo)) (al hlo) dX5_seekEver_64 ?_
          refine lv_icmp_le (tgt := 74) hxR hbR dX5_seekEver_67 (by decide) (fun c_67 => ?_) (fun c_67 => ?_)
          · skip
            have c_67 : T.length ≤ lo := (n_le (a := T.length) (b := lo) (by omega) (by omega)).mp c_67
            refine lv_aload_n hxR hbR dX5_seekEver_74 rfl (lv_at hl 0 rfl) ?_
            refine r_get hxR hbR hts hown hK hI okX5 (ci := 5) rfl 16 (he_l mW_o) 37 (by decide) q1515 rfl (v := .int (nI lo)) (al hlo) dX5_seekEver_75 ?_
            refine r_put (v := .int (nI lo)) (ws1 := mW E ad kp tr (va_up iv 37 (nI lo)) ia K R mv ++ ([(tq, .inl (E.2 0, 40, .inl tf))])) hxR hbR hts hown hK hI okX5 (ci := 5) rfl 16 (he_l mW_o) 37 (by decide) q1515 rfl rfl rfl rfl (Nat.le_of_ble_eq_true rfl) (hw_l (Nat.le_of_ble_eq_true rfl) mW_i37) dX5_seekEver_78 (fun H locs hI => ?_)
            refine lv_aload_n hxR hbR dX5_seekEver_81 rfl (lv_at hl 0 rfl) ?_
            refine lv_aload_n hxR hbR dX5_seekEver_82 rfl (lv_at hl 0 rfl) ?_
            refine r_get hxR hbR hts hown hK hI okX5 (ci := 5) rfl 16 (he_l mW_o) 38 (by decide) q1516 rfl (v := .int (soI so)) (al (up_n (by decide) hso)) dX5_seekEver_83 ?_
            refine lv_iconst (v := (-1)) hxR hbR dX5_seekEver_86 (by decide) ?_
            refine lv_icmp_eq (tgt := 98) hxR hbR dX5_seekEver_87 (by decide) (fun c_87 => ?_) (fun c_87 => ?_)
            · skip
              refine lv_iload_n hxR hbR dX5_seekEver_98 rfl (lv_at hl 3 rfl) ?_
              refine lv_goto (tgt := 106) hxR hbR dX5_seekEver_99 (by decide) ?_
              refine r_put (v := .int (nI T.length)) (ws1 := mW E ad kp tr (va_up (va_up iv 37 (nI lo)) 38 (nI T.length)) ia K R mv ++ ([(tq, .inl (E.2 0, 40, .inl tf))])) hxR hbR hts hown hK hI okX5 (ci := 5) rfl 16 (he_l mW_o) 38 (by decide) q1516 rfl rfl rfl rfl (Nat.le_of_ble_eq_true rfl) (hw_l (Nat.le_of_ble_eq_true rfl) mW_i38) dX5_seekEver_106 (fun H locs hI => ?_)
              have hI : wI E AR sR H locs (mW E ad kp tr (va_up (va_up iv 37 (nI ((seekL L (L.drop i) T (lo, so)).1))) 38 (soI (seekL L (L.drop i) T (lo, so)).2)) ia K R mv ++ ([(tq, .inl (E.2 0, 40, .inl tf))])) := by first | (rw [e0]; dsimp only; rw [va_up_id (f := iv) (k := 37) (v := nI lo) hlo, va_up_id (f := iv) (k := 38) (v := soI so) hso]; exact hI) | (rw [e1]; dsimp only; rw [so_1 hs35 c_87, show max lo T.length = lo by omega]; exact hI) | (rw [e1]; dsimp only; rw [so_2 hs35 (by omega) c_87 c_95, show max lo T.length = lo by omega]; exact hI) | (rw [e1]; dsimp only; rw [so_3 hs35 (by omega) c_87 c_95, show max lo T.length = lo by omega]; exact hI) | (rw [e1]; dsimp only; rw [so_1 hs35 c_87, show max lo T.length = T.length by omega]; exact hI) | (rw [e1]; dsimp only; rw [so_2 hs35 (by omega) c_87 c_95, show max lo T.length = T.length by omega]; exact hI) | (rw [e1]; dsimp only; rw [so_3 hs35 (by omega) c_87 c_95, show max lo T.length = T.length by omega]; exact hI)
              exact hret tf _ _ _ _ _ _ dX5_seekEver_109 hI (by show ∀ j, j < T.length → tf j = tf j; exact fun j hj => rfl) (Nat.le_of_ble_eq_true rfl) (Nat.le_of_ble_eq_true rfl)
            · skip
              refine lv_iload_n hxR hbR dX5_seekEver_90 rfl (lv_at hl 3 rfl) ?_
              refine lv_aload_n hxR hbR dX5_seekEver_91 rfl (lv_at hl 0 rfl) ?_
              refine r_get hxR hbR hts hown hK hI okX5 (ci := 5) rfl 16 (he_l mW_o) 38 (by decide) q1516 rfl (v := .int (soI so)) (al (up_n (by decide) hso)) dX5_seekEver_92 ?_
              refine lv_icmp_ge (tgt := 102) hxR hbR dX5_seekEver_95 (by decide) (fun c_95 => ?_) (fun c_95 => ?_)
              · skip
                refine lv_aload_n hxR hbR dX5_seekEver_102 rfl (lv_at hl 0 rfl) ?_
                refine r_get hxR hbR hts hown hK hI okX5 (ci := 5) rfl 16 (he_l mW_o) 38 (by decide) q1516 rfl (v := .int (soI so)) (al (up_n (by decide) hso)) dX5_seekEver_103 ?_
                refine r_put (v := .int (soI so)) (ws1 := mW E ad kp tr (va_up (va_up iv 37 (nI lo)) 38 (soI so)) ia K R mv ++ ([(tq, .inl (E.2 0, 40, .inl tf))])) hxR hbR hts hown hK hI okX5 (ci := 5) rfl 16 (he_l mW_o) 38 (by decide) q1516 rfl rfl rfl rfl (Nat.le_of_ble_eq_true rfl) (hw_l (Nat.le_of_ble_eq_true rfl) mW_i38) dX5_seekEver_106 (fun H locs hI => ?_)
                have hI : wI E AR sR H locs (mW E ad kp tr (va_up (va_up iv 37 (nI ((seekL L (L.drop i) T (lo, so)).1))) 38 (soI (seekL L (L.drop i) T (lo, so)).2)) ia K R mv ++ ([(tq, .inl (E.2 0, 40, .inl tf))])) := by first | (rw [e0]; dsimp only; rw [va_up_id (f := iv) (k := 37) (v := nI lo) hlo, va_up_id (f := iv) (k := 38) (v := soI so) hso]; exact hI) | (rw [e1]; dsimp only; rw [so_1 hs35 c_87, show max lo T.length = lo by omega]; exact hI) | (rw [e1]; dsimp only; rw [so_2 hs35 (by omega) c_87 c_95, show max lo T.length = lo by omega]; exact hI) | (rw [e1]; dsimp only; rw [so_3 hs35 (by omega) c_87 c_95, show max lo T.length = lo by omega]; exact hI) | (rw [e1]; dsimp only; rw [so_1 hs35 c_87, show max lo T.length = T.length by omega]; exact hI) | (rw [e1]; dsimp only; rw [so_2 hs35 (by omega) c_87 c_95, show max lo T.length = T.length by omega]; exact hI) | (rw [e1]; dsimp only; rw [so_3 hs35 (by omega) c_87 c_95, show max lo T.length = T.length by omega]; exact hI)
                exact hret tf _ _ _ _ _ _ dX5_seekEver_109 hI (by show ∀ j, j < T.length → tf j = tf j; exact fun j hj => rfl) (Nat.le_of_ble_eq_true rfl) (Nat.le_of_ble_eq_true rfl)
              · skip
                refine lv_iload_n hxR hbR dX5_seekEver_98 rfl (lv_at hl 3 rfl) ?_
                refine lv_goto (tgt := 106) hxR hbR dX5_seekEver_99 (by decide) ?_
                refine r_put (v := .int (nI T.length)) (ws1 := mW E ad kp tr (va_up (va_up iv 37 (nI lo)) 38 (nI T.length)) ia K R mv ++ ([(tq, .inl (E.2 0, 40, .inl tf))])) hxR hbR hts hown hK hI okX5 (ci := 5) rfl 16 (he_l mW_o) 38 (by decide) q1516 rfl rfl rfl rfl (Nat.le_of_ble_eq_true rfl) (hw_l (Nat.le_of_ble_eq_true rfl) mW_i38) dX5_seekEver_106 (fun H locs hI => ?_)
                have hI : wI E AR sR H locs (mW E ad kp tr (va_up (va_up iv 37 (nI ((seekL L (L.drop i) T (lo, so)).1))) 38 (soI (seekL L (L.drop i) T (lo, so)).2)) ia K R mv ++ ([(tq, .inl (E.2 0, 40, .inl tf))])) := by first | (rw [e0]; dsimp only; rw [va_up_id (f := iv) (k := 37) (v := nI lo) hlo, va_up_id (f := iv) (k := 38) (v := soI so) hso]; exact hI) | (rw [e1]; dsimp only; rw [so_1 hs35 c_87, show max lo T.length = lo by omega]; exact hI) | (rw [e1]; dsimp only; rw [so_2 hs35 (by omega) c_87 c_95, show max lo T.length = lo by omega]; exact hI) | (rw [e1]; dsimp only; rw [so_3 hs35 (by omega) c_87 c_95, show max lo T.length = lo by omega]; exact hI) | (rw [e1]; dsimp only; rw [so_1 hs35 c_87, show max lo T.length = T.length by omega]; exact hI) | (rw [e1]; dsimp only; rw [so_2 hs35 (by omega) c_87 c_95, show max lo T.length = T.length by omega]; exact hI) | (rw [e1]; dsimp only; rw [so_3 hs35 (by omega) c_87 c_95, show max lo T.length = T.length by omega]; exact hI)
                exact hret tf _ _ _ _ _ _ dX5_seekEver_109 hI (by show ∀ j, j < T.length → tf j = tf j; exact fun j hj => rfl) (Nat.le_of_ble_eq_true rfl) (Nat.le_of_ble_eq_true rfl)
          · skip
            have c_67 : lo < T.length := Nat.lt_of_not_le (fun zz => c_67 ((n_le (a := T.length) (b := lo) (by omega) (by omega)).mpr zz))
            refine lv_iload_n hxR hbR dX5_seekEver_70 rfl (lv_at hl 3 rfl) ?_
            refine lv_goto (tgt := 78) hxR hbR dX5_seekEver_71 (by decide) ?_
            refine r_put (v := .int (nI T.length)) (ws1 := mW E ad kp tr (va_up iv 37 (nI T.length)) ia K R mv ++ ([(tq, .inl (E.2 0, 40, .inl tf))])) hxR hbR hts hown hK hI okX5 (ci := 5) rfl 16 (he_l mW_o) 37 (by decide) q1515 rfl rfl rfl rfl (Nat.le_of_ble_eq_true rfl) (hw_l (Nat.le_of_ble_eq_true rfl) mW_i37) dX5_seekEver_78 (fun H locs hI => ?_)
            refine lv_aload_n hxR hbR dX5_seekEver_81 rfl (lv_at hl 0 rfl) ?_
            refine lv_aload_n hxR hbR dX5_seekEver_82 rfl (lv_at hl 0 rfl) ?_
            refine r_get hxR hbR hts hown hK hI okX5 (ci := 5) rfl 16 (he_l mW_o) 38 (by decide) q1516 rfl (v := .int (soI so)) (al (up_n (by decide) hso)) dX5_seekEver_83 ?_
            refine lv_iconst (v := (-1)) hxR hbR dX5_seekEver_86 (by decide) ?_
            refine lv_icmp_eq (tgt := 98) hxR hbR dX5_seekEver_87 (by decide) (fun c_87 => ?_) (fun c_87 => ?_)
            · skip
              refine lv_iload_n hxR hbR dX5_seekEver_98 rfl (lv_at hl 3 rfl) ?_
              refine lv_goto (tgt := 106) hxR hbR dX5_seekEver_99 (by decide) ?_
              refine r_put (v := .int (nI T.length)) (ws1 := mW E ad kp tr (va_up (va_up iv 37 (nI T.length)) 38 (nI T.length)) ia K R mv ++ ([(tq, .inl (E.2 0, 40, .inl tf))])) hxR hbR hts hown hK hI okX5 (ci := 5) rfl 16 (he_l mW_o) 38 (by decide) q1516 rfl rfl rfl rfl (Nat.le_of_ble_eq_true rfl) (hw_l (Nat.le_of_ble_eq_true rfl) mW_i38) dX5_seekEver_106 (fun H locs hI => ?_)
              have hI : wI E AR sR H locs (mW E ad kp tr (va_up (va_up iv 37 (nI ((seekL L (L.drop i) T (lo, so)).1))) 38 (soI (seekL L (L.drop i) T (lo, so)).2)) ia K R mv ++ ([(tq, .inl (E.2 0, 40, .inl tf))])) := by first | (rw [e0]; dsimp only; rw [va_up_id (f := iv) (k := 37) (v := nI lo) hlo, va_up_id (f := iv) (k := 38) (v := soI so) hso]; exact hI) | (rw [e1]; dsimp only; rw [so_1 hs35 c_87, show max lo T.length = lo by omega]; exact hI) | (rw [e1]; dsimp only; rw [so_2 hs35 (by omega) c_87 c_95, show max lo T.length = lo by omega]; exact hI) | (rw [e1]; dsimp only; rw [so_3 hs35 (by omega) c_87 c_95, show max lo T.length = lo by omega]; exact hI) | (rw [e1]; dsimp only; rw [so_1 hs35 c_87, show max lo T.length = T.length by omega]; exact hI) | (rw [e1]; dsimp only; rw [so_2 hs35 (by omega) c_87 c_95, show max lo T.length = T.length by omega]; exact hI) | (rw [e1]; dsimp only; rw [so_3 hs35 (by omega) c_87 c_95, show max lo T.length = T.length by omega]; exact hI)
              exact hret tf _ _ _ _ _ _ dX5_seekEver_109 hI (by show ∀ j, j < T.length → tf j = tf j; exact fun j hj => rfl) (Nat.le_of_ble_eq_true rfl) (Nat.le_of_ble_eq_true rfl)
            · skip
              refine lv_iload_n hxR hbR dX5_seekEver_90 rfl (lv_at hl 3 rfl) ?_
              refine lv_aload_n hxR hbR dX5_seekEver_91 rfl (lv_at hl 0 rfl) ?_
              refine r_get hxR hbR hts hown hK hI okX5 (ci := 5) rfl 16 (he_l mW_o) 38 (by decide) q1516 rfl (v := .int (soI so)) (al (up_n (by decide) hso)) dX5_seekEver_92 ?_
              refine lv_icmp_ge (tgt := 102) hxR hbR dX5_seekEver_95 (by decide) (fun c_95 => ?_) (fun c_95 => ?_)
              · skip
                refine lv_aload_n hxR hbR dX5_seekEver_102 rfl (lv_at hl 0 rfl) ?_
                refine r_get hxR hbR hts hown hK hI okX5 (ci := 5) rfl 16 (he_l mW_o) 38 (by decide) q1516 rfl (v := .int (soI so)) (al (up_n (by decide) hso)) dX5_seekEver_103 ?_
                refine r_put (v := .int (soI so)) (ws1 := mW E ad kp tr (va_up (va_up iv 37 (nI T.length)) 38 (soI so)) ia K R mv ++ ([(tq, .inl (E.2 0, 40, .inl tf))])) hxR hbR hts hown hK hI okX5 (ci := 5) rfl 16 (he_l mW_o) 38 (by decide) q1516 rfl rfl rfl rfl (Nat.le_of_ble_eq_true rfl) (hw_l (Nat.le_of_ble_eq_true rfl) mW_i38) dX5_seekEver_106 (fun H locs hI => ?_)
                have hI : wI E AR sR H locs (mW E ad kp tr (va_up (va_up iv 37 (nI ((seekL L (L.drop i) T (lo, so)).1))) 38 (soI (seekL L (L.drop i) T (lo, so)).2)) ia K R mv ++ ([(tq, .inl (E.2 0, 40, .inl tf))])) := by first | (rw [e0]; dsimp only; rw [va_up_id (f := iv) (k := 37) (v := nI lo) hlo, va_up_id (f := iv) (k := 38) (v := soI so) hso]; exact hI) | (rw [e1]; dsimp only; rw [so_1 hs35 c_87, show max lo T.length = lo by omega]; exact hI) | (rw [e1]; dsimp only; rw [so_2 hs35 (by omega) c_87 c_95, show max lo T.length = lo by omega]; exact hI) | (rw [e1]; dsimp only; rw [so_3 hs35 (by omega) c_87 c_95, show max lo T.length = lo by omega]; exact hI) | (rw [e1]; dsimp only; rw [so_1 hs35 c_87, show max lo T.length = T.length by omega]; exact hI) | (rw [e1]; dsimp only; rw [so_2 hs35 (by omega) c_87 c_95, show max lo T.length = T.length by omega]; exact hI) | (rw [e1]; dsimp only; rw [so_3 hs35 (by omega) c_87 c_95, show max lo T.length = T.length by omega]; exact hI)
                exact hret tf _ _ _ _ _ _ dX5_seekEver_109 hI (by show ∀ j, j < T.length → tf j = tf j; exact fun j hj => rfl) (Nat.le_of_ble_eq_true rfl) (Nat.le_of_ble_eq_true rfl)
              · skip
                refine lv_iload_n hxR hbR dX5_seekEver_98 rfl (lv_at hl 3 rfl) ?_
                refine lv_goto (tgt := 106) hxR hbR dX5_seekEver_99 (by decide) ?_
                refine r_put (v := .int (nI T.length)) (ws1 := mW E ad kp tr (va_up (va_up iv 37 (nI T.length)) 38 (nI T.length)) ia K R mv ++ ([(tq, .inl (E.2 0, 40, .inl tf))])) hxR hbR hts hown hK hI okX5 (ci := 5) rfl 16 (he_l mW_o) 38 (by decide) q1516 rfl rfl rfl rfl (Nat.le_of_ble_eq_true rfl) (hw_l (Nat.le_of_ble_eq_true rfl) mW_i38) dX5_seekEver_106 (fun H locs hI => ?_)
                have hI : wI E AR sR H locs (mW E ad kp tr (va_up (va_up iv 37 (nI ((seekL L (L.drop i) T (lo, so)).1))) 38 (soI (seekL L (L.drop i) T (lo, so)).2)) ia K R mv ++ ([(tq, .inl (E.2 0, 40, .inl tf))])) := by first | (rw [e0]; dsimp only; rw [va_up_id (f := iv) (k := 37) (v := nI lo) hlo, va_up_id (f := iv) (k := 38) (v := soI so) hso]; exact hI) | (rw [e1]; dsimp only; rw [so_1 hs35 c_87, show max lo T.length = lo by omega]; exact hI) | (rw [e1]; dsimp only; rw [so_2 hs35 (by omega) c_87 c_95, show max lo T.length = lo by omega]; exact hI) | (rw [e1]; dsimp only; rw [so_3 hs35 (by omega) c_87 c_95, show max lo T.length = lo by omega]; exact hI) | (rw [e1]; dsimp only; rw [so_1 hs35 c_87, show max lo T.length = T.length by omega]; exact hI) | (rw [e1]; dsimp only; rw [so_2 hs35 (by omega) c_87 c_95, show max lo T.length = T.length by omega]; exact hI) | (rw [e1]; dsimp only; rw [so_3 hs35 (by omega) c_87 c_95, show max lo T.length = T.length by omega]; exact hI)
                exact hret tf _ _ _ _ _ _ dX5_seekEver_109 hI (by show ∀ j, j < T.length → tf j = tf j; exact fun j hj => rfl) (Nat.le_of_ble_eq_true rfl) (Nat.le_of_ble_eq_true rfl)
      refine lv_iconst (v := 0) hxR hbR dX5_seekEver_11 (by decide) ?_
      refine lv_istore (lv' := [(5, .int 0), (4, .int 1), (0, .ref (ad 45)), (1, .int (nI i)), (2, .ref tq), (3, .int (nI T.length))]) hxR hbR dX5_seekEver_12 hl (by decide) rfl (fun ls hl => ?_)
      have lp_14 : ∀ (fu : Nat) (k : Nat) (b2 : Nat), (k ≤ L.length) → (b2 = if (L.take k).all (fun g => !apartL g T) = true then 1 else 0) → (b2 ≤ 1) → L.length - k < fu → ∀ (H : Heap) (locs : List Loc), wI E AR sR H locs (mW E ad kp tr iv ia K R mv ++ ([(tq, .inl (E.2 0, 40, .inl tf))])) → ∀ ls : Array Slot, lv_has ls 6 [(0, .ref (ad 45)), (1, .int (nI i)), (2, .ref tq), (3, .int (nI T.length)), (4, .int (nI b2)), (5, .int (nI k))] → W pR l eR (rmF (r + 2) 0 0) sR mR aR bR tR cR H locs 0 0 QR (F0 mR 14 ls []) := by
        intro fu
        induction fu with
        | zero =>
          intro k b2 hk hb2 hb21 hfu
          exact absurd hfu (Nat.not_lt_zero _)
        | succ fu ih_14 =>
          intro k b2 hk hb2 hb21 hfu H locs hI ls hl
          refine lv_iload hxR hbR dX5_seekEver_14 (lv_at hl 5 rfl) ?_
          refine lv_aload_n hxR hbR dX5_seekEver_16 rfl (lv_at hl 0 rfl) ?_
          refine r_get hxR hbR hts hown hK hI okX5 (ci := 5) rfl 16 (he_l mW_o) 30 (by decide) q1508 rfl (v := .int (nI L.length)) (al hc) dX5_seekEver_17 ?_
          refine lv_icmp_ge (tgt := 56) hxR hbR dX5_seekEver_20 (by decide) (fun c_20 => ?_) (fun c_20 => ?_)
          · skip
            have c_20 : L.length ≤ k := (n_le (a := L.length) (b := k) (by omega) (by omega)).mp c_20
            exact cut_56 b2 (by first | exact all_e hb2 c_20 | exact all_f hb2 c_25) _ _ hI _ (lv_sub hl [0, 1, 2, 3, 4] rfl)
          · skip
            have c_20 : k < L.length := Nat.lt_of_not_le (fun zz => c_20 ((n_le (a := L.length) (b := k) (by omega) (by omega)).mpr zz))
            refine lv_iload hxR hbR dX5_seekEver_23 (lv_at hl 4 rfl) ?_
            refine lv_if_eq (tgt := 56) hxR hbR dX5_seekEver_25 (by decide) (fun c_25 => ?_) (fun c_25 => ?_)
            · skip
              have c_25 : b2 = 0 := (n_eq (a := b2) (b := 0) (by omega) (by omega)).mp c_25
              exact cut_56 b2 (by first | exact all_e hb2 c_20 | exact all_f hb2 c_25) _ _ hI _ (lv_sub hl [0, 1, 2, 3, 4] rfl)
            · skip
              have c_25 : ¬ b2 = 0 := fun zz => c_25 ((n_eq (a := b2) (b := 0) (by omega) (by omega)).mpr zz)
              refine lv_aload_n hxR hbR dX5_seekEver_28 rfl (lv_at hl 2 rfl) ?_
              refine lv_iload_n hxR hbR dX5_seekEver_29 rfl (lv_at hl 3 rfl) ?_
              refine lv_aload_n hxR hbR dX5_seekEver_30 rfl (lv_at hl 0 rfl) ?_
              refine r_get hxR hbR hts hown hK hI okX5 (ci := 5) rfl 16 (he_l mW_o) 29 (by decide) q1507 rfl (v := .ref (ad 29)) rfl dX5_seekEver_31 ?_
              refine lv_iload hxR hbR dX5_seekEver_34 (lv_at hl 5 rfl) ?_
              refine r_iald hxR hbR hK hI 30 (n := 70) (J := k) (f := ia 29) (v := nI (L.getD k 0)) (he_l (mW_g29 rfl)) (by omega) (by decide) (hL.at (by omega)) dX5_seekEver_36 ?_
              refine kSI (n := 3) (As := [.ref tq, .int (nI T.length), .int (nI (L.getD k 0))]) (rest := []) (fun w => w) hxR hbR hmlR hts hown hK hA hl.1 isCtx.id hI (c5_isApart l E (mW E ad kp tr iv ia K R mv ++ ([(tq, .inl (E.2 0, 40, .inl tf))])) tq (38 + 0) tf T (L.getD k 0) (he_r (Nat.le_of_ble_eq_true rfl) (Nat.le_of_ble_eq_true rfl) rfl) hT (by omega) hT8) (lw_S q1962 q1963 q86 q1964) (by decide +kernel) rfl (by omega) (Nat.le_of_ble_eq_true rfl) ⟨Nat.le_of_ble_eq_true rfl, Nat.le_of_ble_eq_true rfl⟩ (Nat.le_of_ble_eq_true rfl) dX5_seekEver_37 (fun r_37 u H locs hp hI hz => ?_)
              have hI : wI E AR sR H locs (mW E ad kp tr iv ia K R mv ++ ([(tq, .inl (E.2 0, 40, .inl tf))])) := hI
              have hr_37 : r_37 = b2i (apartL (L.getD k 0) T) := hp
              rcases b2i_cases hr_37 with ⟨c_37, rfl⟩ | ⟨c_37, rfl⟩
              · skip
                have c_37 : apartL (L.getD k 0) T = true := c_37
                refine lv_if_ne (tgt := 47) hxR hbR dX5_seekEver_40 (by decide) (fun _ => ?_) (fun c => absurd c (by decide))
                refine lv_iconst (v := 0) hxR hbR dX5_seekEver_47 (by decide) ?_
                refine lv_istore (lv' := [(4, .int 0), (0, .ref (ad 45)), (1, .int (nI i)), (2, .ref tq), (3, .int (nI T.length)), (5, .int (nI k))]) hxR hbR dX5_seekEver_48 hl (by decide) rfl (fun ls hl => ?_)
                refine lv_iinc (v := nI (k + 1)) (lv' := [(5, .int (nI (k + 1))), (4, .int 0), (0, .ref (ad 45)), (1, .int (nI i)), (2, .ref tq), (3, .int (nI T.length))]) hxR hbR dX5_seekEver_50 hl (k := 5) rfl (show nI k + 1 = nI (k + 1) from nI_add _ 1) (by decide) rfl (fun ls hl => ?_)
                refine lv_goto (tgt := 14) hxR hbR dX5_seekEver_53 (by decide) ?_
                exact ih_14 (k + 1) 0 (by first | omega | with_reducible assumption) (by first | exact all_1 c_20 hb2 c_25 c_37 | exact all_0 c_20 c_37) (by decide) (by omega) _ _ hI _ (lv_sub hl [2, 3, 4, 5, 1, 0] rfl)
              · skip
                have c_37 : apartL (L.getD k 0) T = false := c_37
                refine lv_if_ne (tgt := 47) hxR hbR dX5_seekEver_40 (by decide) (fun c => absurd c (by decide)) (fun _ => ?_)
                refine lv_iconst (v := 1) hxR hbR dX5_seekEver_43 (by decide) ?_
                refine lv_goto (tgt := 48) hxR hbR dX5_seekEver_44 (by decide) ?_
                refine lv_istore (lv' := [(4, .int 1), (0, .ref (ad 45)), (1, .int (nI i)), (2, .ref tq), (3, .int (nI T.length)), (5, .int (nI k))]) hxR hbR dX5_seekEver_48 hl (by decide) rfl (fun ls hl => ?_)
                refine lv_iinc (v := nI (k + 1)) (lv' := [(5, .int (nI (k + 1))), (4, .int 1), (0, .ref (ad 45)), (1, .int (nI i)), (2, .ref tq), (3, .int (nI T.length))]) hxR hbR dX5_seekEver_50 hl (k := 5) rfl (show nI k + 1 = nI (k + 1) from nI_add _ 1) (by decide) rfl (fun ls hl => ?_)
                refine lv_goto (tgt := 14) hxR hbR dX5_seekEver_53 (by decide) ?_
                exact ih_14 (k + 1) 1 (by first | omega | with_reducible assumption) (by first | exact all_1 c_20 hb2 c_25 c_37 | exact all_0 c_20 c_37) (by decide) (by omega) _ _ hI _ (lv_sub hl [2, 3, 4, 5, 1, 0] rfl)
      exact lp_14 _ 0 1 (by first | omega | with_reducible assumption) (by simp) (by decide) (Nat.lt_succ_self _) _ _ hI _ (lv_sub hl [2, 3, 4, 5, 1, 0] rfl)
