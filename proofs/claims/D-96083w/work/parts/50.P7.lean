theorem c5_look (l : Launch) (E : En) (ad : Nat → Nat) (kp tr : Option Nat) (iv : Nat → Int32) (ia K : Nat → Nat → Int32) (R : Nat → Nat → Int64) (mv : Nat → Int64) (b : Nat → Nat) (sz : Nat) (p : Nat) (hsz : iv 8 = nI sz) (hz : sz ≤ 250) (htp : tpOk (ia 7) b sz) (hat : iv 22 = nI p) (hp9 : p ≤ sz) : CtV l E yX5_look cX5_look 1 1 0 0 [.ref (ad 45)] (mW E ad kp tr iv ia K R mv) (fun (u : Unit) => True) (fun (u : Unit) => mW E ad kp tr (va_up (va_up (va_up (va_up iv 22 (nI (nx b sz p))) 23 (nI (kd b sz p))) 24 (nI (fr b sz p))) 25 (nI (fg b sz p))) ia K R mv) := by
  refine CtV.of (by decide +kernel) (Nat.le_of_ble_eq_true rfl) ?_
  intro pR eR sR mR aR bR tR cR AR ls QR hxR hbR hmlR hts hown hlk hnm hA hK hI hl hret
  have hl : lv_has ls 1 [(0, .ref (ad 45))] := hl
  have hI := wI_w (ws' := mW E ad kp tr (va_up iv 22 (nI p)) ia K R mv) (by rw [va_up_id (f := iv) (k := 22) (v := nI p) hat]) hI
  have lp_0 : ∀ (fu : Nat) (x : Nat), (x ≤ sz) → (whl bSp b sz x = whl bSp b sz p) → sz - x < fu → ∀ (H : Heap) (locs : List Loc), wI E AR sR H locs (mW E ad kp tr (va_up iv 22 (nI x)) ia K R mv) → ∀ ls : Array Slot, lv_has ls 1 [(0, .ref (ad 45))] → W pR l eR (rmF 1 0 0) sR mR aR bR tR cR H locs 0 0 QR (F0 mR 0 ls []) := by
    intro fu
    induction fu with
    | zero =>
      intro x hxs hw hfu
      exact absurd hfu (Nat.not_lt_zero _)
    | succ fu ih_0 =>
      intro x hxs hw hfu H locs hI ls hl
      have cut_38 : ∀ (x : Nat), (x = fr b sz p) → (x ≤ sz) → ∀ (H : Heap) (locs : List Loc), wI E AR sR H locs (mW E ad kp tr (va_up iv 22 (nI x)) ia K R mv) → ∀ ls : Array Slot, lv_has ls 1 [(0, .ref (ad 45))] → W pR l eR (rmF 1 0 0) sR mR aR bR tR cR H locs 0 0 QR (F0 mR 38 ls []) := by
        intro x hx hxs H locs hI ls hl
        refine lv_aload_n hxR hbR dX5_look_38 rfl (lv_at hl 0 rfl) ?_
        refine lv_aload_n hxR hbR dX5_look_39 rfl (lv_at hl 0 rfl) ?_
        refine r_get hxR hbR hts hown hK hI okX5 (ci := 5) rfl 16 mW_o 22 (by decide) q1500 rfl (v := .int (nI x)) (al va_up_s) dX5_look_40 ?_
        refine r_put (v := .int (nI x)) (ws1 := mW E ad kp tr (va_up (va_up iv 22 (nI x)) 24 (nI x)) ia K R mv) hxR hbR hts hown hK hI okX5 (ci := 5) rfl 16 mW_o 24 (by decide) q1502 rfl rfl rfl rfl (Nat.le_of_ble_eq_true rfl) mW_i24 dX5_look_43 (fun H locs hI => ?_)
        refine lv_aload_n hxR hbR dX5_look_46 rfl (lv_at hl 0 rfl) ?_
        refine lv_iconst (v := 0) hxR hbR dX5_look_47 (by decide) ?_
        refine r_put (v := .int 0) (ws1 := mW E ad kp tr (va_up (va_up (va_up iv 22 (nI x)) 24 (nI x)) 25 0) ia K R mv) hxR hbR hts hown hK hI okX5 (ci := 5) rfl 16 mW_o 25 (by decide) q1503 rfl rfl rfl rfl (Nat.le_of_ble_eq_true rfl) mW_i25 dX5_look_48 (fun H locs hI => ?_)
        refine lv_aload_n hxR hbR dX5_look_51 rfl (lv_at hl 0 rfl) ?_
        refine r_get hxR hbR hts hown hK hI okX5 (ci := 5) rfl 16 mW_o 22 (by decide) q1500 rfl (v := .int (nI x)) (al (up_n (by decide) (up_n (by decide) va_up_s))) dX5_look_52 ?_
        refine lv_aload_n hxR hbR dX5_look_55 rfl (lv_at hl 0 rfl) ?_
        refine r_get hxR hbR hts hown hK hI okX5 (ci := 5) rfl 16 mW_o 8 (by decide) q1486 rfl (v := .int (nI sz)) (al (up_n (by decide) (up_n (by decide) (up_n (by decide) hsz)))) dX5_look_56 ?_
        refine lv_icmp_ne (tgt := 70) hxR hbR dX5_look_59 (by decide) (fun c_59 => ?_) (fun c_59 => ?_)
        · skip
          have c_59 : ¬ x = sz := fun zz => c_59 ((n_eq (a := x) (b := sz) (by omega) (by omega)).mpr zz)
          have e1 : ¬ fr b sz p = sz := by omega
          have hb256 := htp.lt x (by omega)
          refine lv_aload_n hxR hbR dX5_look_70 rfl (lv_at hl 0 rfl) ?_
          refine r_get hxR hbR hts hown hK hI okX5 (ci := 5) rfl 16 mW_o 7 (by decide) q1485 rfl (v := .ref (ad 7)) rfl dX5_look_71 ?_
          refine lv_aload_n hxR hbR dX5_look_74 rfl (lv_at hl 0 rfl) ?_
          refine r_get hxR hbR hts hown hK hI okX5 (ci := 5) rfl 16 mW_o 22 (by decide) q1500 rfl (v := .int (nI x)) (al (up_n (by decide) (up_n (by decide) va_up_s))) dX5_look_75 ?_
          refine r_iald hxR hbR hK hI 24 (n := 250) (J := x) (f := ia 7) (v := nI (b x)) (mW_g7 rfl) (by omega) (by decide) (htp x (by omega)).1 dX5_look_78 ?_
          refine kSI (n := 1) (As := [.int (nI (b x))]) (rest := []) (fun w => w ++ (mW E ad kp tr (va_up (va_up (va_up iv 22 (nI x)) 24 (nI x)) 25 0) ia K R mv)) hxR hbR hmlR hts hown hK hA hl.1 (isCtx.suf _) hI (c5_isLetter l E  (nI (b x)) ) (lw_S q1780 q1781 q86 q1782) (by decide +kernel) rfl (Nat.le_of_ble_eq_true rfl) (Nat.le_of_ble_eq_true rfl) ⟨Nat.le_of_ble_eq_true rfl, Nat.le_of_ble_eq_true rfl⟩ (Nat.le_of_ble_eq_true rfl) dX5_look_79 (fun r_79 u H locs hp hI hz => ?_)
          have hI : wI E AR sR H locs (mW E ad kp tr (va_up (va_up (va_up iv 22 (nI x)) 24 (nI x)) 25 0) ia K R mv) := hI
          have hp : r_79 = b2i (isLet (nI (b x))) := hp
          have hr_79 := hp
          rcases b2i_cases hr_79 with ⟨c_79, rfl⟩ | ⟨c_79, rfl⟩
          · skip
            have c_79 : isLet (nI (b x)) = true := c_79
            have c_79 : bLet (b x) = true := by rw [← isLet_n _ hb256]; exact c_79
            have l1 : bLet (b (fr b sz p)) = true := by rw [← hx]; exact c_79
            refine lv_if_eq (tgt := 129) hxR hbR dX5_look_82 (by decide) (fun c => absurd c (by decide)) (fun _ => ?_)
            refine lv_aload_n hxR hbR dX5_look_85 rfl (lv_at hl 0 rfl) ?_
            refine lv_iconst (v := 1) hxR hbR dX5_look_86 (by decide) ?_
            refine r_put (v := .int 1) (ws1 := mW E ad kp tr (va_up (va_up (va_up (va_up iv 22 (nI x)) 23 1) 24 (nI x)) 25 0) ia K R mv) hxR hbR hts hown hK hI okX5 (ci := 5) rfl 16 mW_o 23 (by decide) q1501 rfl rfl rfl rfl (Nat.le_of_ble_eq_true rfl) (Eq.trans mW_i23 (mW_c1 (up_s (by decide) (up_s (by decide) rfl)))) dX5_look_87 (fun H locs hI => ?_)
            have lp_90 : ∀ (fu : Nat) (y : Nat), (y ≤ sz) → (whl bLet b sz y = whl bLet b sz x) → sz - y < fu → ∀ (H : Heap) (locs : List Loc), wI E AR sR H locs (mW E ad kp tr (va_up (va_up (va_up (va_up iv 22 (nI y)) 23 1) 24 (nI x)) 25 0) ia K R mv) → ∀ ls : Array Slot, lv_has ls 1 [(0, .ref (ad 45))] → W pR l eR (rmF 1 0 0) sR mR aR bR tR cR H locs 0 0 QR (F0 mR 90 ls []) := by
              intro fu
              induction fu with
              | zero =>
                intro y hys hw1 hfu
                exact absurd hfu (Nat.not_lt_zero _)
              | succ fu ih_90 =>
                intro y hys hw1 hfu H locs hI ls hl
                refine lv_aload_n hxR hbR dX5_look_90 rfl (lv_at hl 0 rfl) ?_
                refine r_get hxR hbR hts hown hK hI okX5 (ci := 5) rfl 16 mW_o 22 (by decide) q1500 rfl (v := .int (nI y)) (al (up_n (by decide) (up_n (by decide) (up_n (by decide) va_up_s)))) dX5_look_91 ?_
                refine lv_aload_n hxR hbR dX5_look_94 rfl (lv_at hl 0 rfl) ?_
                refine r_get hxR hbR hts hown hK hI okX5 (ci := 5) rfl 16 mW_o 8 (by decide) q1486 rfl (v := .int (nI sz)) (al (up_n (by decide) (up_n (by decide) (up_n (by decide) (up_n (by decide) hsz))))) dX5_look_95 ?_
                refine lv_icmp_ge (tgt := 263) hxR hbR dX5_look_98 (by decide) (fun c_98 => ?_) (fun c_98 => ?_)
                · skip
                  have c_98 : sz ≤ y := (n_le (a := sz) (b := y) (by omega) (by omega)).mp c_98
                  try (have hy : whl bLet b sz x = y := by rw [← hw1]; exact whl_n (fun z => by first | omega | (rw [c_110] at z; exact absurd z.2 (by decide))))
                  try (have hy : whl bDig b sz x = y := by rw [← hw1]; exact whl_n (fun z => by first | omega | (rw [c_169] at z; exact absurd z.2 (by decide))))
                  have hI : wI E AR sR H locs (mW E ad kp tr (va_up (va_up (va_up (va_up iv 22 (nI (nx b sz p))) 23 (nI (kd b sz p))) 24 (nI (fr b sz p))) 25 (nI (fg b sz p))) ia K R mv) := by rw [kd_1 e1 l1, nx_1 e1 l1, fg_n (by rw [kd_1 e1 l1]; decide), ← hx, hy]; exact hI
                  exact hret () _ _ _ _ _ _ dX5_look_263 hI (by show True; trivial) (Nat.le_of_ble_eq_true rfl) (Nat.le_of_ble_eq_true rfl)
                · skip
                  have c_98 : y < sz := Nat.lt_of_not_le (fun zz => c_98 ((n_le (a := sz) (b := y) (by omega) (by omega)).mpr zz))
                  refine lv_aload_n hxR hbR dX5_look_101 rfl (lv_at hl 0 rfl) ?_
                  refine r_get hxR hbR hts hown hK hI okX5 (ci := 5) rfl 16 mW_o 7 (by decide) q1485 rfl (v := .ref (ad 7)) rfl dX5_look_102 ?_
                  refine lv_aload_n hxR hbR dX5_look_105 rfl (lv_at hl 0 rfl) ?_
                  refine r_get hxR hbR hts hown hK hI okX5 (ci := 5) rfl 16 mW_o 22 (by decide) q1500 rfl (v := .int (nI y)) (al (up_n (by decide) (up_n (by decide) (up_n (by decide) va_up_s)))) dX5_look_106 ?_
                  refine r_iald hxR hbR hK hI 24 (n := 250) (J := y) (f := ia 7) (v := nI (b y)) (mW_g7 rfl) (by omega) (by decide) (htp y (by omega)).1 dX5_look_109 ?_
                  refine kSI (n := 1) (As := [.int (nI (b y))]) (rest := []) (fun w => w ++ (mW E ad kp tr (va_up (va_up (va_up (va_up iv 22 (nI y)) 23 1) 24 (nI x)) 25 0) ia K R mv)) hxR hbR hmlR hts hown hK hA hl.1 (isCtx.suf _) hI (c5_isLetter l E  (nI (b y)) ) (lw_S q1780 q1781 q86 q1782) (by decide +kernel) rfl (Nat.le_of_ble_eq_true rfl) (Nat.le_of_ble_eq_true rfl) ⟨Nat.le_of_ble_eq_true rfl, Nat.le_of_ble_eq_true rfl⟩ (Nat.le_of_ble_eq_true rfl) dX5_look_110 (fun r_110 u H locs hp hI hz => ?_)
                  have hI : wI E AR sR H locs (mW E ad kp tr (va_up (va_up (va_up (va_up iv 22 (nI y)) 23 1) 24 (nI x)) 25 0) ia K R mv) := hI
                  have hp : r_110 = b2i (isLet (nI (b y))) := hp
                  have hr_110 := hp
                  rcases b2i_cases hr_110 with ⟨c_110, rfl⟩ | ⟨c_110, rfl⟩
                  · skip
                    have c_110 : isLet (nI (b y)) = true := c_110
                    have c_110 : bLet (b y) = true := by rw [← isLet_n _ (htp.lt y (by omega))]; exact c_110
                    refine lv_if_eq (tgt := 263) hxR hbR dX5_look_113 (by decide) (fun c => absurd c (by decide)) (fun _ => ?_)
                    refine lv_aload_n hxR hbR dX5_look_116 rfl (lv_at hl 0 rfl) ?_
                    refine lv_dup hxR hbR dX5_look_117 rfl ?_
                    refine r_get hxR hbR hts hown hK hI okX5 (ci := 5) rfl 16 mW_o 22 (by decide) q1500 rfl (v := .int (nI y)) (al (up_n (by decide) (up_n (by decide) (up_n (by decide) va_up_s)))) dX5_look_118 ?_
                    refine lv_iconst (v := 1) hxR hbR dX5_look_121 (by decide) ?_
                    refine lv_iadd hxR hbR dX5_look_122 ?_
                    refine lv_as (y := nI (y + 1)) (nI_add y 1) ?_
                    refine r_put (v := .int (nI (y + 1))) (ws1 := mW E ad kp tr (va_up (va_up (va_up (va_up iv 22 (nI (y + 1))) 23 1) 24 (nI x)) 25 0) ia K R mv) hxR hbR hts hown hK hI okX5 (ci := 5) rfl 16 mW_o 22 (by decide) q1500 rfl rfl rfl rfl (Nat.le_of_ble_eq_true rfl) (Eq.trans mW_i22 (mW_c1 (up_s (by decide) (up_s (by decide) (up_s (by decide) up_0))))) dX5_look_123 (fun H locs hI => ?_)
                    refine lv_goto (tgt := 90) hxR hbR dX5_look_126 (by decide) ?_
                    exact ih_90 (y + 1) (by first | omega | with_reducible assumption) (by rw [← hw1]; exact whl_y c_98 c_110) (by omega) _ _ hI _ (lv_sub hl [0] rfl)
                  · skip
                    have c_110 : isLet (nI (b y)) = false := c_110
                    have c_110 : bLet (b y) = false := by rw [← isLet_n _ (htp.lt y (by omega))]; exact c_110
                    refine lv_if_eq (tgt := 263) hxR hbR dX5_look_113 (by decide) (fun _ => ?_) (fun c => absurd c (by decide))
                    try (have hy : whl bLet b sz x = y := by rw [← hw1]; exact whl_n (fun z => by first | omega | (rw [c_110] at z; exact absurd z.2 (by decide))))
                    try (have hy : whl bDig b sz x = y := by rw [← hw1]; exact whl_n (fun z => by first | omega | (rw [c_169] at z; exact absurd z.2 (by decide))))
                    have hI : wI E AR sR H locs (mW E ad kp tr (va_up (va_up (va_up (va_up iv 22 (nI (nx b sz p))) 23 (nI (kd b sz p))) 24 (nI (fr b sz p))) 25 (nI (fg b sz p))) ia K R mv) := by rw [kd_1 e1 l1, nx_1 e1 l1, fg_n (by rw [kd_1 e1 l1]; decide), ← hx, hy]; exact hI
                    exact hret () _ _ _ _ _ _ dX5_look_263 hI (by show True; trivial) (Nat.le_of_ble_eq_true rfl) (Nat.le_of_ble_eq_true rfl)
            exact lp_90 _ x (by first | omega | with_reducible assumption) rfl (Nat.lt_succ_self _) _ _ hI _ (lv_sub hl [0] rfl)
          · skip
            have c_79 : isLet (nI (b x)) = false := c_79
            have c_79 : bLet (b x) = false := by rw [← isLet_n _ hb256]; exact c_79
            have l0 : ¬ bLet (b (fr b sz p)) = true := by rw [← hx, c_79]; decide
            refine lv_if_eq (tgt := 129) hxR hbR dX5_look_82 (by decide) (fun _ => ?_) (fun c => absurd c (by decide))
            refine lv_aload_n hxR hbR dX5_look_129 rfl (lv_at hl 0 rfl) ?_
            refine r_get hxR hbR hts hown hK hI okX5 (ci := 5) rfl 16 mW_o 7 (by decide) q1485 rfl (v := .ref (ad 7)) rfl dX5_look_130 ?_
            refine lv_aload_n hxR hbR dX5_look_133 rfl (lv_at hl 0 rfl) ?_
            refine r_get hxR hbR hts hown hK hI okX5 (ci := 5) rfl 16 mW_o 22 (by decide) q1500 rfl (v := .int (nI x)) (al (up_n (by decide) (up_n (by decide) va_up_s))) dX5_look_134 ?_
            refine r_iald hxR hbR hK hI 24 (n := 250) (J := x) (f := ia 7) (v := nI (b x)) (mW_g7 rfl) (by omega) (by decide) (htp x (by omega)).1 dX5_look_137 ?_
            refine kSI (n := 1) (As := [.int (nI (b x))]) (rest := []) (fun w => w ++ (mW E ad kp tr (va_up (va_up (va_up iv 22 (nI x)) 24 (nI x)) 25 0) ia K R mv)) hxR hbR hmlR hts hown hK hA hl.1 (isCtx.suf _) hI (c5_isDigit l E  (nI (b x)) ) (lw_S q1783 q1784 q86 q1785) (by decide +kernel) rfl (Nat.le_of_ble_eq_true rfl) (Nat.le_of_ble_eq_true rfl) ⟨Nat.le_of_ble_eq_true rfl, Nat.le_of_ble_eq_true rfl⟩ (Nat.le_of_ble_eq_true rfl) dX5_look_138 (fun r_138 u H locs hp hI hz => ?_)
            have hI : wI E AR sR H locs (mW E ad kp tr (va_up (va_up (va_up iv 22 (nI x)) 24 (nI x)) 25 0) ia K R mv) := hI
            have hp : r_138 = b2i (isDig (nI (b x))) := hp
            have hr_138 := hp
            rcases b2i_cases hr_138 with ⟨c_138, rfl⟩ | ⟨c_138, rfl⟩
            · skip
              have c_138 : isDig (nI (b x)) = true := c_138
              have c_138 : bDig (b x) = true := by rw [← isDig_n _ hb256]; exact c_138
              have l2 : bDig (b (fr b sz p)) = true := by rw [← hx]; exact c_138
              refine lv_if_eq (tgt := 230) hxR hbR dX5_look_141 (by decide) (fun c => absurd c (by decide)) (fun _ => ?_)
              refine lv_aload_n hxR hbR dX5_look_144 rfl (lv_at hl 0 rfl) ?_
              refine lv_iconst (v := 2) hxR hbR dX5_look_145 (by decide) ?_
              refine r_put (v := .int 2) (ws1 := mW E ad kp tr (va_up (va_up (va_up (va_up iv 22 (nI x)) 23 2) 24 (nI x)) 25 0) ia K R mv) hxR hbR hts hown hK hI okX5 (ci := 5) rfl 16 mW_o 23 (by decide) q1501 rfl rfl rfl rfl (Nat.le_of_ble_eq_true rfl) (Eq.trans mW_i23 (mW_c1 (up_s (by decide) (up_s (by decide) rfl)))) dX5_look_146 (fun H locs hI => ?_)
              have lp_149 : ∀ (fu : Nat) (y : Nat) (f : Nat), (y ≤ sz) → (x ≤ y) → (whl bDig b sz y = whl bDig b sz x) → (f = fgN b x (y - x)) → sz - y < fu → ∀ (H : Heap) (locs : List Loc), wI E AR sR H locs (mW E ad kp tr (va_up (va_up (va_up (va_up iv 22 (nI y)) 23 2) 24 (nI x)) 25 (nI f)) ia K R mv) → ∀ ls : Array Slot, lv_has ls 1 [(0, .ref (ad 45))] → W pR l eR (rmF 1 0 0) sR mR aR bR tR cR H locs 0 0 QR (F0 mR 149 ls []) := by
                intro fu
                induction fu with
                | zero =>
                  intro y f hys hxy hw1 hf hfu
                  exact absurd hfu (Nat.not_lt_zero _)
                | succ fu ih_149 =>
                  intro y f hys hxy hw1 hf hfu H locs hI ls hl
                  refine lv_aload_n hxR hbR dX5_look_149 rfl (lv_at hl 0 rfl) ?_
                  refine r_get hxR hbR hts hown hK hI okX5 (ci := 5) rfl 16 mW_o 22 (by decide) q1500 rfl (v := .int (nI y)) (al (up_n (by decide) (up_n (by decide) (up_n (by decide) va_up_s)))) dX5_look_150 ?_
                  refine lv_aload_n hxR hbR dX5_look_153 rfl (lv_at hl 0 rfl) ?_
                  refine r_get hxR hbR hts hown hK hI okX5 (ci := 5) rfl 16 mW_o 8 (by decide) q1486 rfl (v := .int (nI sz)) (al (up_n (by decide) (up_n (by decide) (up_n (by decide) (up_n (by decide) hsz))))) dX5_look_154 ?_
                  refine lv_icmp_ge (tgt := 263) hxR hbR dX5_look_157 (by decide) (fun c_157 => ?_) (fun c_157 => ?_)
                  · skip
                    have c_157 : sz ≤ y := (n_le (a := sz) (b := y) (by omega) (by omega)).mp c_157
                    try (have hy : whl bLet b sz x = y := by rw [← hw1]; exact whl_n (fun z => by first | omega | (rw [c_110] at z; exact absurd z.2 (by decide))))
                    try (have hy : whl bDig b sz x = y := by rw [← hw1]; exact whl_n (fun z => by first | omega | (rw [c_169] at z; exact absurd z.2 (by decide))))
                    have hI : wI E AR sR H locs (mW E ad kp tr (va_up (va_up (va_up (va_up iv 22 (nI (nx b sz p))) 23 (nI (kd b sz p))) 24 (nI (fr b sz p))) 25 (nI (fg b sz p))) ia K R mv) := by rw [fg_2 (kd_2 e1 l0 l2), kd_2 e1 l0 l2, nx_2 e1 l0 l2, ← hx, hy, ← hf]; exact hI
                    exact hret () _ _ _ _ _ _ dX5_look_263 hI (by show True; trivial) (Nat.le_of_ble_eq_true rfl) (Nat.le_of_ble_eq_true rfl)
                  · skip
                    have c_157 : y < sz := Nat.lt_of_not_le (fun zz => c_157 ((n_le (a := sz) (b := y) (by omega) (by omega)).mpr zz))
                    refine lv_aload_n hxR hbR dX5_look_160 rfl (lv_at hl 0 rfl) ?_
                    refine r_get hxR hbR hts hown hK hI okX5 (ci := 5) rfl 16 mW_o 7 (by decide) q1485 rfl (v := .ref (ad 7)) rfl dX5_look_161 ?_
                    refine lv_aload_n hxR hbR dX5_look_164 rfl (lv_at hl 0 rfl) ?_
                    refine r_get hxR hbR hts hown hK hI okX5 (ci := 5) rfl 16 mW_o 22 (by decide) q1500 rfl (v := .int (nI y)) (al (up_n (by decide) (up_n (by decide) (up_n (by decide) va_up_s)))) dX5_look_165 ?_
                    refine r_iald hxR hbR hK hI 24 (n := 250) (J := y) (f := ia 7) (v := nI (b y)) (mW_g7 rfl) (by omega) (by decide) (htp y (by omega)).1 dX5_look_168 ?_
                    refine kSI (n := 1) (As := [.int (nI (b y))]) (rest := []) (fun w => w ++ (mW E ad kp tr (va_up (va_up (va_up (va_up iv 22 (nI y)) 23 2) 24 (nI x)) 25 (nI f)) ia K R mv)) hxR hbR hmlR hts hown hK hA hl.1 (isCtx.suf _) hI (c5_isDigit l E  (nI (b y)) ) (lw_S q1783 q1784 q86 q1785) (by decide +kernel) rfl (Nat.le_of_ble_eq_true rfl) (Nat.le_of_ble_eq_true rfl) ⟨Nat.le_of_ble_eq_true rfl, Nat.le_of_ble_eq_true rfl⟩ (Nat.le_of_ble_eq_true rfl) dX5_look_169 (fun r_169 u H locs hp hI hz => ?_)
                    have hI : wI E AR sR H locs (mW E ad kp tr (va_up (va_up (va_up (va_up iv 22 (nI y)) 23 2) 24 (nI x)) 25 (nI f)) ia K R mv) := hI
                    have hp : r_169 = b2i (isDig (nI (b y))) := hp
                    have hr_169 := hp
                    rcases b2i_cases hr_169 with ⟨c_169, rfl⟩ | ⟨c_169, rfl⟩
                    · skip
                      have c_169 : isDig (nI (b y)) = true := c_169
                      have c_169 : bDig (b y) = true := by rw [← isDig_n _ (htp.lt y (by omega))]; exact c_169
                      have hd48 := bDig_ge c_169
                      refine lv_if_eq (tgt := 263) hxR hbR dX5_look_172 (by decide) (fun c => absurd c (by decide)) (fun _ => ?_)
                      refine lv_aload_n hxR hbR dX5_look_175 rfl (lv_at hl 0 rfl) ?_
                      refine lv_aload_n hxR hbR dX5_look_176 rfl (lv_at hl 0 rfl) ?_
                      refine r_get hxR hbR hts hown hK hI okX5 (ci := 5) rfl 16 mW_o 22 (by decide) q1500 rfl (v := .int (nI y)) (al (up_n (by decide) (up_n (by decide) (up_n (by decide) va_up_s)))) dX5_look_177 ?_
                      refine lv_aload_n hxR hbR dX5_look_180 rfl (lv_at hl 0 rfl) ?_
                      refine r_get hxR hbR hts hown hK hI okX5 (ci := 5) rfl 16 mW_o 24 (by decide) q1502 rfl (v := .int (nI x)) (al (up_n (by decide) va_up_s)) dX5_look_181 ?_
                      refine lv_isub hxR hbR dX5_look_184 ?_
                      refine lv_as (y := nI (y - x)) (pk_sub (a := y) (b := x) (by omega)) ?_
                      refine lv_iconst (v := 2) hxR hbR dX5_look_185 (by decide) ?_
                      refine lv_icmp_ge (tgt := 212) hxR hbR dX5_look_186 (by decide) (fun c_186 => ?_) (fun c_186 => ?_)
                      · skip
                        have c_186 : 2 ≤ (y - x) := (n_le (a := 2) (b := (y - x)) (by omega) (by omega)).mp c_186
                        refine lv_ldc (v := 100000) hxR hbR hown (hts _ q1786) dX5_look_212 ?_
                        refine r_put (v := .int 100000) (ws1 := mW E ad kp tr (va_up (va_up (va_up (va_up iv 22 (nI y)) 23 2) 24 (nI x)) 25 100000) ia K R mv) hxR hbR hts hown hK hI okX5 (ci := 5) rfl 16 mW_o 25 (by decide) q1503 rfl rfl rfl rfl (Nat.le_of_ble_eq_true rfl) (Eq.trans mW_i25 (mW_c1 up_0)) dX5_look_214 (fun H locs hI => ?_)
                        refine lv_aload_n hxR hbR dX5_look_217 rfl (lv_at hl 0 rfl) ?_
                        refine lv_dup hxR hbR dX5_look_218 rfl ?_
                        refine r_get hxR hbR hts hown hK hI okX5 (ci := 5) rfl 16 mW_o 22 (by decide) q1500 rfl (v := .int (nI y)) (al (up_n (by decide) (up_n (by decide) (up_n (by decide) va_up_s)))) dX5_look_219 ?_
                        refine lv_iconst (v := 1) hxR hbR dX5_look_222 (by decide) ?_
                        refine lv_iadd hxR hbR dX5_look_223 ?_
                        refine lv_as (y := nI (y + 1)) (nI_add y 1) ?_
                        refine r_put (v := .int (nI (y + 1))) (ws1 := mW E ad kp tr (va_up (va_up (va_up (va_up iv 22 (nI (y + 1))) 23 2) 24 (nI x)) 25 100000) ia K R mv) hxR hbR hts hown hK hI okX5 (ci := 5) rfl 16 mW_o 22 (by decide) q1500 rfl rfl rfl rfl (Nat.le_of_ble_eq_true rfl) (Eq.trans mW_i22 (mW_c1 (up_s (by decide) (up_s (by decide) (up_s (by decide) up_0))))) dX5_look_224 (fun H locs hI => ?_)
                        refine lv_goto (tgt := 149) hxR hbR dX5_look_227 (by decide) ?_
                        exact ih_149 (y + 1) 100000 (by first | omega | with_reducible assumption) (by first | omega | with_reducible assumption) (by rw [← hw1]; exact whl_y c_157 c_169) (by first | exact fgN_s hxy hf c_186 | exact fgN_b hxy c_186) (by omega) _ _ hI _ (lv_sub hl [0] rfl)
                      · skip
                        have c_186 : (y - x) < 2 := Nat.lt_of_not_le (fun zz => c_186 ((n_le (a := 2) (b := (y - x)) (by omega) (by omega)).mpr zz))
                        refine lv_aload_n hxR hbR dX5_look_189 rfl (lv_at hl 0 rfl) ?_
                        refine r_get hxR hbR hts hown hK hI okX5 (ci := 5) rfl 16 mW_o 25 (by decide) q1503 rfl (v := .int (nI f)) (al va_up_s) dX5_look_190 ?_
                        refine lv_bipush (v := 10) hxR hbR dX5_look_193 (by decide) ?_
                        refine lv_imul hxR hbR dX5_look_195 ?_
                        refine lv_as (y := nI (f * 10)) (pk_mul f 10) ?_
                        refine lv_aload_n hxR hbR dX5_look_196 rfl (lv_at hl 0 rfl) ?_
                        refine r_get hxR hbR hts hown hK hI okX5 (ci := 5) rfl 16 mW_o 7 (by decide) q1485 rfl (v := .ref (ad 7)) rfl dX5_look_197 ?_
                        refine lv_aload_n hxR hbR dX5_look_200 rfl (lv_at hl 0 rfl) ?_
                        refine r_get hxR hbR hts hown hK hI okX5 (ci := 5) rfl 16 mW_o 22 (by decide) q1500 rfl (v := .int (nI y)) (al (up_n (by decide) (up_n (by decide) (up_n (by decide) va_up_s)))) dX5_look_201 ?_
                        refine r_iald hxR hbR hK hI 24 (n := 250) (J := y) (f := ia 7) (v := nI (b y)) (mW_g7 rfl) (by omega) (by decide) (htp y (by omega)).1 dX5_look_204 ?_
                        refine lv_iadd hxR hbR dX5_look_205 ?_
                        refine lv_as (y := nI ((f * 10) + (b y))) (nI_add (f * 10) (b y)) ?_
                        refine lv_bipush (v := 48) hxR hbR dX5_look_206 (by decide) ?_
                        refine lv_isub hxR hbR dX5_look_208 ?_
                        refine lv_as (y := nI (((f * 10) + (b y)) - 48)) (pk_sub (a := (f * 10) + (b y)) (b := 48) (by omega)) ?_
                        refine lv_goto (tgt := 214) hxR hbR dX5_look_209 (by decide) ?_
                        refine r_put (v := .int (nI (((f * 10) + (b y)) - 48))) (ws1 := mW E ad kp tr (va_up (va_up (va_up (va_up iv 22 (nI y)) 23 2) 24 (nI x)) 25 (nI (((f * 10) + (b y)) - 48))) ia K R mv) hxR hbR hts hown hK hI okX5 (ci := 5) rfl 16 mW_o 25 (by decide) q1503 rfl rfl rfl rfl (Nat.le_of_ble_eq_true rfl) (Eq.trans mW_i25 (mW_c1 up_0)) dX5_look_214 (fun H locs hI => ?_)
                        refine lv_aload_n hxR hbR dX5_look_217 rfl (lv_at hl 0 rfl) ?_
                        refine lv_dup hxR hbR dX5_look_218 rfl ?_
                        refine r_get hxR hbR hts hown hK hI okX5 (ci := 5) rfl 16 mW_o 22 (by decide) q1500 rfl (v := .int (nI y)) (al (up_n (by decide) (up_n (by decide) (up_n (by decide) va_up_s)))) dX5_look_219 ?_
                        refine lv_iconst (v := 1) hxR hbR dX5_look_222 (by decide) ?_
                        refine lv_iadd hxR hbR dX5_look_223 ?_
                        refine lv_as (y := nI (y + 1)) (nI_add y 1) ?_
                        refine r_put (v := .int (nI (y + 1))) (ws1 := mW E ad kp tr (va_up (va_up (va_up (va_up iv 22 (nI (y + 1))) 23 2) 24 (nI x)) 25 (nI (((f * 10) + (b y)) - 48))) ia K R mv) hxR hbR hts hown hK hI okX5 (ci := 5) rfl 16 mW_o 22 (by decide) q1500 rfl rfl rfl rfl (Nat.le_of_ble_eq_true rfl) (Eq.trans mW_i22 (mW_c1 (up_s (by decide) (up_s (by decide) (up_s (by decide) up_0))))) dX5_look_224 (fun H locs hI => ?_)
                        refine lv_goto (tgt := 149) hxR hbR dX5_look_227 (by decide) ?_
                        exact ih_149 (y + 1) (((f * 10) + (b y)) - 48) (by first | omega | with_reducible assumption) (by first | omega | with_reducible assumption) (by rw [← hw1]; exact whl_y c_157 c_169) (by first | exact fgN_s hxy hf c_186 | exact fgN_b hxy c_186) (by omega) _ _ hI _ (lv_sub hl [0] rfl)
                    · skip
                      have c_169 : isDig (nI (b y)) = false := c_169
                      have c_169 : bDig (b y) = false := by rw [← isDig_n _ (htp.lt y (by omega))]; exact c_169
                      refine lv_if_eq (tgt := 263) hxR hbR dX5_look_172 (by decide) (fun _ => ?_) (fun c => absurd c (by decide))
                      try (have hy : whl bLet b sz x = y := by rw [← hw1]; exact whl_n (fun z => by first | omega | (rw [c_110] at z; exact absurd z.2 (by decide))))
                      try (have hy : whl bDig b sz x = y := by rw [← hw1]; exact whl_n (fun z => by first | omega | (rw [c_169] at z; exact absurd z.2 (by decide))))
                      have hI : wI E AR sR H locs (mW E ad kp tr (va_up (va_up (va_up (va_up iv 22 (nI (nx b sz p))) 23 (nI (kd b sz p))) 24 (nI (fr b sz p))) 25 (nI (fg b sz p))) ia K R mv) := by rw [fg_2 (kd_2 e1 l0 l2), kd_2 e1 l0 l2, nx_2 e1 l0 l2, ← hx, hy, ← hf]; exact hI
                      exact hret () _ _ _ _ _ _ dX5_look_263 hI (by show True; trivial) (Nat.le_of_ble_eq_true rfl) (Nat.le_of_ble_eq_true rfl)
              exact lp_149 _ x 0 (by first | omega | with_reducible assumption) (by first | omega | with_reducible assumption) rfl (by rw [Nat.sub_self]; rfl) (Nat.lt_succ_self _) _ _ hI _ (lv_sub hl [0] rfl)
            · skip
              have c_138 : isDig (nI (b x)) = false := c_138
              have c_138 : bDig (b x) = false := by rw [← isDig_n _ hb256]; exact c_138
              have l3 : ¬ bDig (b (fr b sz p)) = true := by rw [← hx, c_138]; decide
              refine lv_if_eq (tgt := 230) hxR hbR dX5_look_141 (by decide) (fun _ => ?_) (fun c => absurd c (by decide))
              refine lv_aload_n hxR hbR dX5_look_230 rfl (lv_at hl 0 rfl) ?_
              refine lv_aload_n hxR hbR dX5_look_231 rfl (lv_at hl 0 rfl) ?_
              refine r_get hxR hbR hts hown hK hI okX5 (ci := 5) rfl 16 mW_o 7 (by decide) q1485 rfl (v := .ref (ad 7)) rfl dX5_look_232 ?_
              refine lv_aload_n hxR hbR dX5_look_235 rfl (lv_at hl 0 rfl) ?_
              refine r_get hxR hbR hts hown hK hI okX5 (ci := 5) rfl 16 mW_o 22 (by decide) q1500 rfl (v := .int (nI x)) (al (up_n (by decide) (up_n (by decide) va_up_s))) dX5_look_236 ?_
              refine r_iald hxR hbR hK hI 24 (n := 250) (J := x) (f := ia 7) (v := nI (b x)) (mW_g7 rfl) (by omega) (by decide) (htp x (by omega)).1 dX5_look_239 ?_
              refine lv_bipush (v := 59) hxR hbR dX5_look_240 (by decide) ?_
              refine lv_icmp_ne (tgt := 249) hxR hbR dX5_look_242 (by decide) (fun c_242 => ?_) (fun c_242 => ?_)
              · skip
                have c_242 : ¬ (b x) = 59 := fun zz => c_242 ((n_eq (a := (b x)) (b := 59) (by omega) (by decide)).mpr zz)
                have l4 : ¬ b (fr b sz p) = 59 := by rw [← hx]; exact c_242
                refine lv_iconst (v := 4) hxR hbR dX5_look_249 (by decide) ?_
                refine r_put (v := .int 4) (ws1 := mW E ad kp tr (va_up (va_up (va_up (va_up iv 22 (nI x)) 23 4) 24 (nI x)) 25 0) ia K R mv) hxR hbR hts hown hK hI okX5 (ci := 5) rfl 16 mW_o 23 (by decide) q1501 rfl rfl rfl rfl (Nat.le_of_ble_eq_true rfl) (Eq.trans mW_i23 (mW_c1 (up_s (by decide) (up_s (by decide) rfl)))) dX5_look_250 (fun H locs hI => ?_)
                refine lv_aload_n hxR hbR dX5_look_253 rfl (lv_at hl 0 rfl) ?_
                refine lv_dup hxR hbR dX5_look_254 rfl ?_
                refine r_get hxR hbR hts hown hK hI okX5 (ci := 5) rfl 16 mW_o 22 (by decide) q1500 rfl (v := .int (nI x)) (al (up_n (by decide) (up_n (by decide) (up_n (by decide) va_up_s)))) dX5_look_255 ?_
                refine lv_iconst (v := 1) hxR hbR dX5_look_258 (by decide) ?_
                refine lv_iadd hxR hbR dX5_look_259 ?_
                refine lv_as (y := nI (x + 1)) (nI_add x 1) ?_
                refine r_put (v := .int (nI (x + 1))) (ws1 := mW E ad kp tr (va_up (va_up (va_up (va_up iv 22 (nI (x + 1))) 23 4) 24 (nI x)) 25 0) ia K R mv) hxR hbR hts hown hK hI okX5 (ci := 5) rfl 16 mW_o 22 (by decide) q1500 rfl rfl rfl rfl (Nat.le_of_ble_eq_true rfl) (Eq.trans mW_i22 (mW_c1 (up_s (by decide) (up_s (by decide) (up_s (by decide) up_0))))) dX5_look_260 (fun H locs hI => ?_)
                try (have hy : whl bLet b sz x = y := by rw [← hw1]; exact whl_n (fun z => by first | omega | (rw [c_110] at z; exact absurd z.2 (by decide))))
                try (have hy : whl bDig b sz x = y := by rw [← hw1]; exact whl_n (fun z => by first | omega | (rw [c_169] at z; exact absurd z.2 (by decide))))
                have hI : wI E AR sR H locs (mW E ad kp tr (va_up (va_up (va_up (va_up iv 22 (nI (nx b sz p))) 23 (nI (kd b sz p))) 24 (nI (fr b sz p))) 25 (nI (fg b sz p))) ia K R mv) := by rw [kd_4 e1 l0 l3 l4, nx_3 e1 l0 l3, fg_n (by rw [kd_4 e1 l0 l3 l4]; decide), ← hx]; exact hI
                exact hret () _ _ _ _ _ _ dX5_look_263 hI (by show True; trivial) (Nat.le_of_ble_eq_true rfl) (Nat.le_of_ble_eq_true rfl)
              · skip
                have c_242 : (b x) = 59 := (n_eq (a := (b x)) (b := 59) (by omega) (by decide)).mp c_242
                have l4 : b (fr b sz p) = 59 := by rw [← hx]; exact c_242
                refine lv_iconst (v := 3) hxR hbR dX5_look_245 (by decide) ?_
                refine lv_goto (tgt := 250) hxR hbR dX5_look_246 (by decide) ?_
                refine r_put (v := .int 3) (ws1 := mW E ad kp tr (va_up (va_up (va_up (va_up iv 22 (nI x)) 23 3) 24 (nI x)) 25 0) ia K R mv) hxR hbR hts hown hK hI okX5 (ci := 5) rfl 16 mW_o 23 (by decide) q1501 rfl rfl rfl rfl (Nat.le_of_ble_eq_true rfl) (Eq.trans mW_i23 (mW_c1 (up_s (by decide) (up_s (by decide) rfl)))) dX5_look_250 (fun H locs hI => ?_)
                refine lv_aload_n hxR hbR dX5_look_253 rfl (lv_at hl 0 rfl) ?_
                refine lv_dup hxR hbR dX5_look_254 rfl ?_
                refine r_get hxR hbR hts hown hK hI okX5 (ci := 5) rfl 16 mW_o 22 (by decide) q1500 rfl (v := .int (nI x)) (al (up_n (by decide) (up_n (by decide) (up_n (by decide) va_up_s)))) dX5_look_255 ?_
                refine lv_iconst (v := 1) hxR hbR dX5_look_258 (by decide) ?_
                refine lv_iadd hxR hbR dX5_look_259 ?_
                refine lv_as (y := nI (x + 1)) (nI_add x 1) ?_
                refine r_put (v := .int (nI (x + 1))) (ws1 := mW E ad kp tr (va_up (va_up (va_up (va_up iv 22 (nI (x + 1))) 23 3) 24 (nI x)) 25 0) ia K R mv) hxR hbR hts hown hK hI okX5 (ci := 5) rfl 16 mW_o 22 (by decide) q1500 rfl rfl rfl rfl (Nat.le_of_ble_eq_true rfl) (Eq.trans mW_i22 (mW_c1 (up_s (by decide) (up_s (by decide) (up_s (by decide) up_0))))) dX5_look_260 (fun H locs hI => ?_)
                try (have hy : whl bLet b sz x = y := by rw [← hw1]; exact whl_n (fun z => by first | omega | (rw [c_110] at z; exact absurd z.2 (by decide))))
                try (have hy : whl bDig b sz x = y := by rw [← hw1]; exact whl_n (fun z => by first | omega | (rw [c_169] at z; exact absurd z.2 (by decide))))
                have hI : wI E AR sR H locs (mW E ad kp tr (va_up (va_up (va_up (va_up iv 22 (nI (nx b sz p))) 23 (nI (kd b sz p))) 24 (nI (fr b sz p))) 25 (nI (fg b sz p))) ia K R mv) := by rw [kd_3 e1 l0 l3 l4, nx_3 e1 l0 l3, fg_n (by rw [kd_3 e1 l0 l3 l4]; decide), ← hx]; exact hI
                exact hret () _ _ _ _ _ _ dX5_look_263 hI (by show True; trivial) (Nat.le_of_ble_eq_true rfl) (Nat.le_of_ble_eq_true rfl)
        · skip
          have c_59 : x = sz := (n_eq (a := x) (b := sz) (by omega) (by omega)).mp c_59
          have e0 : fr b sz p = sz := by omega
          refine lv_aload_n hxR hbR dX5_look_62 rfl (lv_at hl 0 rfl) ?_
          refine lv_iconst (v := 0) hxR hbR dX5_look_63 (by decide) ?_
          refine r_put (v := .int 0) (ws1 := mW E ad kp tr (va_up (va_up (va_up (va_up iv 22 (nI x)) 23 0) 24 (nI x)) 25 0) ia K R mv) hxR hbR hts hown hK hI okX5 (ci := 5) rfl 16 mW_o 23 (by decide) q1501 rfl rfl rfl rfl (Nat.le_of_ble_eq_true rfl) (Eq.trans mW_i23 (mW_c1 (up_s (by decide) (up_s (by decide) rfl)))) dX5_look_64 (fun H locs hI => ?_)
          refine lv_goto (tgt := 263) hxR hbR dX5_look_67 (by decide) ?_
          try (have hy : whl bLet b sz x = y := by rw [← hw1]; exact whl_n (fun z => by first | omega | (rw [c_110] at z; exact absurd z.2 (by decide))))
          try (have hy : whl bDig b sz x = y := by rw [← hw1]; exact whl_n (fun z => by first | omega | (rw [c_169] at z; exact absurd z.2 (by decide))))
          have hI : wI E AR sR H locs (mW E ad kp tr (va_up (va_up (va_up (va_up iv 22 (nI (nx b sz p))) 23 (nI (kd b sz p))) 24 (nI (fr b sz p))) 25 (nI (fg b sz p))) ia K R mv) := by rw [kd_0 e0, nx_0 e0, fg_n (by rw [kd_0 e0]; decide), ← hx]; exact hI
          exact hret () _ _ _ _ _ _ dX5_look_263 hI (by show True; trivial) (Nat.le_of_ble_eq_true rfl) (Nat.le_of_ble_eq_true rfl)
      refine lv_aload_n hxR hbR dX5_look_0 rfl (lv_at hl 0 rfl) ?_
      refine r_get hxR hbR hts hown hK hI okX5 (ci := 5) rfl 16 mW_o 22 (by decide) q1500 rfl (v := .int (nI x)) (al va_up_s) dX5_look_1 ?_
      refine lv_aload_n hxR hbR dX5_look_4 rfl (lv_at hl 0 rfl) ?_
      refine r_get hxR hbR hts hown hK hI okX5 (ci := 5) rfl 16 mW_o 8 (by decide) q1486 rfl (v := .int (nI sz)) (al (up_n (by decide) hsz)) dX5_look_5 ?_
      refine lv_icmp_ge (tgt := 38) hxR hbR dX5_look_8 (by decide) (fun c_8 => ?_) (fun c_8 => ?_)
      · skip
        have c_8 : sz ≤ x := (n_le (a := sz) (b := x) (by omega) (by omega)).mp c_8
        exact cut_38 x (by show _ = whl bSp b sz p; rw [← hw]; exact (whl_n (fun z => by first | omega | exact c_22 (of_decide_eq_true z.2))).symm) (by first | omega | with_reducible assumption) _ _ hI _ (lv_sub hl [0] rfl)
      · skip
        have c_8 : x < sz := Nat.lt_of_not_le (fun zz => c_8 ((n_le (a := sz) (b := x) (by omega) (by omega)).mpr zz))
        refine lv_aload_n hxR hbR dX5_look_11 rfl (lv_at hl 0 rfl) ?_
        refine r_get hxR hbR hts hown hK hI okX5 (ci := 5) rfl 16 mW_o 7 (by decide) q1485 rfl (v := .ref (ad 7)) rfl dX5_look_12 ?_
        refine lv_aload_n hxR hbR dX5_look_15 rfl (lv_at hl 0 rfl) ?_
        refine r_get hxR hbR hts hown hK hI okX5 (ci := 5) rfl 16 mW_o 22 (by decide) q1500 rfl (v := .int (nI x)) (al va_up_s) dX5_look_16 ?_
        refine r_iald hxR hbR hK hI 24 (n := 250) (J := x) (f := ia 7) (v := nI (b x)) (mW_g7 rfl) (by omega) (by decide) (htp x (by omega)).1 dX5_look_19 ?_
        refine lv_bipush (v := 32) hxR hbR dX5_look_20 (by decide) ?_
        refine lv_icmp_ne (tgt := 38) hxR hbR dX5_look_22 (by decide) (fun c_22 => ?_) (fun c_22 => ?_)
        · skip
          have c_22 : ¬ (b x) = 32 := fun zz => c_22 ((n_eq (a := (b x)) (b := 32) (by have := htp.lt x (by omega); omega) (by decide)).mpr zz)
          exact cut_38 x (by show _ = whl bSp b sz p; rw [← hw]; exact (whl_n (fun z => by first | omega | exact c_22 (of_decide_eq_true z.2))).symm) (by first | omega | with_reducible assumption) _ _ hI _ (lv_sub hl [0] rfl)
        · skip
          have c_22 : (b x) = 32 := (n_eq (a := (b x)) (b := 32) (by have := htp.lt x (by omega); omega) (by decide)).mp c_22
          refine lv_aload_n hxR hbR dX5_look_25 rfl (lv_at hl 0 rfl) ?_
          refine lv_dup hxR hbR dX5_look_26 rfl ?_
          refine r_get hxR hbR hts hown hK hI okX5 (ci := 5) rfl 16 mW_o 22 (by decide) q1500 rfl (v := .int (nI x)) (al va_up_s) dX5_look_27 ?_
          refine lv_iconst (v := 1) hxR hbR dX5_look_30 (by decide) ?_
          refine lv_iadd hxR hbR dX5_look_31 ?_
          refine lv_as (y := nI (x + 1)) (nI_add x 1) ?_
          refine r_put (v := .int (nI (x + 1))) (ws1 := mW E ad kp tr (va_up iv 22 (nI (x + 1))) ia K R mv) hxR hbR hts hown hK hI okX5 (ci := 5) rfl 16 mW_o 22 (by decide) q1500 rfl rfl rfl rfl (Nat.le_of_ble_eq_true rfl) (Eq.trans mW_i22 (mW_c1 up_0)) dX5_look_32 (fun H locs hI => ?_)
          refine lv_goto (tgt := 0) hxR hbR dX5_look_35 (by decide) ?_
          exact ih_0 (x + 1) (by first | omega | with_reducible assumption) (by rw [← hw]; exact whl_y c_8 (decide_eq_true c_22)) (by omega) _ _ hI _ (lv_sub hl [0] rfl)
  exact lp_0 _ p (by first | omega | with_reducible assumption) rfl (Nat.lt_succ_self _) _ _ hI _ (lv_sub hl [0] rfl)

theorem c5_wrong (l : Launch) (E : En) (ad : Nat → Nat) (kp tr : Option Nat) (iv : Nat → Int32) (ia K : Nat → Nat → Int32) (R : Nat → Nat → Int64) (mv : Nat → Int64)   : CtI l E yX5_wrong cX5_wrong 1 .boolean 0 0 0 [.ref (ad 45)] (mW E ad kp tr iv ia K R mv) (fun (r : Int32) (u : Unit) => r = 0) (fun (u : Unit) => mW E ad kp tr (va_up iv 26 (iv 24)) ia K R mv) := by
  refine CtI.of (by decide +kernel) (Nat.le_of_ble_eq_true rfl) ?_
  intro pR eR sR mR aR bR tR cR AR ls QR hxR hbR hmlR hts hown hlk hnm hA hK hI hl hret
  have hl : lv_has ls 1 [(0, .ref (ad 45))] := hl
  refine lv_aload_n hxR hbR dX5_wrong_0 rfl (lv_at hl 0 rfl) ?_
  refine lv_aload_n hxR hbR dX5_wrong_1 rfl (lv_at hl 0 rfl) ?_
  refine r_get hxR hbR hts hown hK hI okX5 (ci := 5) rfl 16 mW_o 24 (by decide) q1502 rfl (v := .int (iv 24)) (al rfl) dX5_wrong_2 ?_
  refine r_put (v := .int (iv 24)) (ws1 := mW E ad kp tr (va_up iv 26 (iv 24)) ia K R mv) hxR hbR hts hown hK hI okX5 (ci := 5) rfl 16 mW_o 26 (by decide) q1504 rfl rfl rfl rfl (Nat.le_of_ble_eq_true rfl) mW_i26 dX5_wrong_5 (fun H locs hI => ?_)
  refine lv_iconst (v := 0) hxR hbR dX5_wrong_8 (by decide) ?_
  exact hret () 0 _ _ _ _ _ _ dX5_wrong_9 hI (by show 0 = 0; rfl) (Nat.le_of_ble_eq_true rfl) (Nat.le_of_ble_eq_true rfl) rfl

theorem c5_isWord (l : Launch) (E : En) (ad : Nat → Nat) (kp tr : Option Nat) (iv : Nat → Int32) (ia K : Nat → Nat → Int32) (R : Nat → Nat → Int64) (mv : Nat → Int64) (b : Nat → Nat) (sz : Nat) (a : Nat) (w : Nat) (hsz : iv 8 = nI sz) (hz : sz ≤ 250) (htp : tpOk (ia 7) b sz) (h22 : iv 22 = nI (nx b sz a)) (h23 : iv 23 = nI (kd b sz a)) (h24 : iv 24 = nI (fr b sz a)) (h25 : iv 25 = nI (fg b sz a)) (ha : a ≤ sz) (hw : w < 8) : CtI l E yX5_isWord cX5_isWord 3 .boolean 5 0 0 [.ref (ad 45), .ref (E.1.2.1 w)] (mW E ad kp tr iv ia K R mv) (fun (r : Int32) (u : Unit) => r = b2i (isW b sz a w)) (fun (u : Unit) => mW E ad kp tr iv ia K R mv) := by
  have hfa := fr_le (b := b) ha
  have hna := nx_le (b := b) ha
  have hfn := nx_ge (b := b) (sz := sz) (a := a)
  have hka := kd_lt (b := b) (sz := sz) (a := a)
  have hga := fg_le htp.lt ha
  have hsl := sl_le w hw
  refine CtI.of (by decide +kernel) (Nat.le_of_ble_eq_true rfl) ?_
  intro pR eR sR mR aR bR tR cR AR ls QR hxR hbR hmlR hts hown hlk hnm hA hK hI hl hret
  have hl : lv_has ls 3 [(0, .ref (ad 45)), (1, .ref (E.1.2.1 w))] := hl
  refine lv_aload_n hxR hbR dX5_isWord_0 rfl (lv_at hl 0 rfl) ?_
  refine r_get hxR hbR hts hown hK hI okX5 (ci := 5) rfl 16 mW_o 23 (by decide) q1501 rfl (v := .int (nI (kd b sz a))) (al h23) dX5_isWord_1 ?_
  refine lv_iconst (v := 1) hxR hbR dX5_isWord_4 (by decide) ?_
  refine lv_icmp_ne (tgt := 24) hxR hbR dX5_isWord_5 (by decide) (fun c_5 => ?_) (fun c_5 => ?_)
  · skip
    have c_5 : ¬ (kd b sz a) = 1 := fun zz => c_5 ((n_eq (a := (kd b sz a)) (b := 1) (by omega) (by omega)).mpr zz)
    refine lv_iconst (v := 0) hxR hbR dX5_isWord_24 (by decide) ?_
    exact hret () 0 _ _ _ _ _ _ dX5_isWord_25 hI (by show 0 = b2i (isW b sz a w); rw [isW_f1 c_5]; rfl) (Nat.le_of_ble_eq_true rfl) (Nat.le_of_ble_eq_true rfl) rfl
  · skip
    have c_5 : (kd b sz a) = 1 := (n_eq (a := (kd b sz a)) (b := 1) (by omega) (by omega)).mp c_5
    refine lv_aload_n hxR hbR dX5_isWord_8 rfl (lv_at hl 0 rfl) ?_
    refine r_get hxR hbR hts hown hK hI okX5 (ci := 5) rfl 16 mW_o 22 (by decide) q1500 rfl (v := .int (nI (nx b sz a))) (al h22) dX5_isWord_9 ?_
    refine lv_aload_n hxR hbR dX5_isWord_12 rfl (lv_at hl 0 rfl) ?_
    refine r_get hxR hbR hts hown hK hI okX5 (ci := 5) rfl 16 mW_o 24 (by decide) q1502 rfl (v := .int (nI (fr b sz a))) (al h24) dX5_isWord_13 ?_
    refine lv_isub hxR hbR dX5_isWord_16 ?_
    refine lv_as (y := nI ((nx b sz a) - (fr b sz a))) (pk_sub (a := nx b sz a) (b := fr b sz a) hfn) ?_
    refine lv_aload_n hxR hbR dX5_isWord_17 rfl (lv_at hl 1 rfl) ?_
    refine kVIc (n := 0) (As := []) (rest := [.int (nI ((nx b sz a) - (fr b sz a)))]) (fun w => w ++ (mW E ad kp tr iv ia K R mv)) hxR hbR hmlR hts hown hK hA hl.1 (isCtx.suf _) hI w hw (c4_length l E w  hw ) (lw_V q1796 q1797 q1798 q91 q1799) ⟨rfl, by decide +kernel⟩ rfl rfl (Nat.le_of_ble_eq_true rfl) (Nat.le_of_ble_eq_true rfl) ⟨Nat.le_of_ble_eq_true rfl, Nat.le_of_ble_eq_true rfl⟩ (Nat.le_of_ble_eq_true rfl) dX5_isWord_18 (fun r_18 u H locs hp hI hz => ?_)
    have hI : wI E AR sR H locs (mW E ad kp tr iv ia K R mv) := hI
    obtain rfl : r_18 = nI (sLen.getD w 0) := hp
    refine lv_icmp_eq (tgt := 26) hxR hbR dX5_isWord_21 (by decide) (fun c_21 => ?_) (fun c_21 => ?_)
    · skip
      have c_21 : ((nx b sz a) - (fr b sz a)) = (sLen.getD w 0) := (n_eq (a := ((nx b sz a) - (fr b sz a))) (b := (sLen.getD w 0)) (by omega) (by omega)).mp c_21
      refine lv_iconst (v := 0) hxR hbR dX5_isWord_26 (by decide) ?_
      refine lv_istore_n (lv' := [(2, .int 0), (0, .ref (ad 45)), (1, .ref (E.1.2.1 w))]) hxR hbR dX5_isWord_27 rfl hl (by decide) rfl (fun ls hl => ?_)
      have lp_28 : ∀ (fu : Nat) (j : Nat), (j ≤ sLen.getD w 0) → (∀ i, i < j → nI (b (fr b sz a + i)) = (sByt.getD w []).getD i 0) → sLen.getD w 0 - j < fu → ∀ (H : Heap) (locs : List Loc), wI E AR sR H locs (mW E ad kp tr iv ia K R mv) → ∀ ls : Array Slot, lv_has ls 3 [(0, .ref (ad 45)), (1, .ref (E.1.2.1 w)), (2, .int (nI j))] → W pR l eR (rmF 5 0 0) sR mR aR bR tR cR H locs 0 0 QR (F0 mR 28 ls []) := by
        intro fu
        induction fu with
        | zero =>
          intro j hj hq hfu
          exact absurd hfu (Nat.not_lt_zero _)
        | succ fu ih_28 =>
          intro j hj hq hfu H locs hI ls hl
          refine lv_iload_n hxR hbR dX5_isWord_28 rfl (lv_at hl 2 rfl) ?_
          refine lv_aload_n hxR hbR dX5_isWord_29 rfl (lv_at hl 1 rfl) ?_
          refine kVIc (n := 0) (As := []) (rest := [.int (nI j)]) (fun w => w ++ (mW E ad kp tr iv ia K R mv)) hxR hbR hmlR hts hown hK hA hl.1 (isCtx.suf _) hI w hw (c4_length l E w  hw ) (lw_V q1796 q1797 q1798 q91 q1799) ⟨rfl, by decide +kernel⟩ rfl rfl (Nat.le_of_ble_eq_true rfl) (Nat.le_of_ble_eq_true rfl) ⟨Nat.le_of_ble_eq_true rfl, Nat.le_of_ble_eq_true rfl⟩ (Nat.le_of_ble_eq_true rfl) dX5_isWord_30 (fun r_30 u H locs hp hI hz => ?_)
          have hI : wI E AR sR H locs (mW E ad kp tr iv ia K R mv) := hI
          obtain rfl : r_30 = nI (sLen.getD w 0) := hp
          refine lv_icmp_ge (tgt := 63) hxR hbR dX5_isWord_33 (by decide) (fun c_33 => ?_) (fun c_33 => ?_)
          · skip
            have c_33 : (sLen.getD w 0) ≤ j := (n_le (a := (sLen.getD w 0)) (b := j) (by omega) (by omega)).mp c_33
            refine lv_iconst (v := 1) hxR hbR dX5_isWord_63 (by decide) ?_
            exact hret () 1 _ _ _ _ _ _ dX5_isWord_64 hI (by show 1 = b2i (isW b sz a w); rw [isW_t c_5 c_21 (fun i hi => hq i (by omega))]; rfl) (Nat.le_of_ble_eq_true rfl) (Nat.le_of_ble_eq_true rfl) rfl
          · skip
            have c_33 : j < (sLen.getD w 0) := Nat.lt_of_not_le (fun zz => c_33 ((n_le (a := (sLen.getD w 0)) (b := j) (by omega) (by omega)).mpr zz))
            refine lv_aload_n hxR hbR dX5_isWord_36 rfl (lv_at hl 0 rfl) ?_
            refine r_get hxR hbR hts hown hK hI okX5 (ci := 5) rfl 16 mW_o 7 (by decide) q1485 rfl (v := .ref (ad 7)) rfl dX5_isWord_37 ?_
            refine lv_aload_n hxR hbR dX5_isWord_40 rfl (lv_at hl 0 rfl) ?_
            refine r_get hxR hbR hts hown hK hI okX5 (ci := 5) rfl 16 mW_o 24 (by decide) q1502 rfl (v := .int (nI (fr b sz a))) (al h24) dX5_isWord_41 ?_
            refine lv_iload_n hxR hbR dX5_isWord_44 rfl (lv_at hl 2 rfl) ?_
            refine lv_iadd hxR hbR dX5_isWord_45 ?_
            refine lv_as (y := nI ((fr b sz a) + j)) (nI_add (fr b sz a) j) ?_
            refine r_iald hxR hbR hK hI 24 (n := 250) (J := (fr b sz a) + j) (f := ia 7) (v := nI (b ((fr b sz a) + j))) (mW_g7 rfl) (by omega) (by decide) (htp ((fr b sz a) + j) (by omega)).1 dX5_isWord_46 ?_
            refine lv_aload_n hxR hbR dX5_isWord_47 rfl (lv_at hl 1 rfl) ?_
            refine lv_iload_n hxR hbR dX5_isWord_48 rfl (lv_at hl 2 rfl) ?_
            refine kVIc (n := 1) (As := [.int (nI j)]) (rest := [.int (nI (b ((fr b sz a) + j)))]) (fun w => w ++ (mW E ad kp tr iv ia K R mv)) hxR hbR hmlR hts hown hK hA hl.1 (isCtx.suf _) hI w hw (c4_charAt l E w j hw (by omega)) (lw_V q1804 q1805 q1806 q91 q1807) ⟨rfl, by decide +kernel⟩ rfl rfl (Nat.le_of_ble_eq_true rfl) (Nat.le_of_ble_eq_true rfl) ⟨Nat.le_of_ble_eq_true rfl, Nat.le_of_ble_eq_true rfl⟩ (Nat.le_of_ble_eq_true rfl) dX5_isWord_49 (fun r_49 u H locs hp hI hz => ?_)
            have hI : wI E AR sR H locs (mW E ad kp tr iv ia K R mv) := hI
            obtain rfl : r_49 = (sByt.getD w []).getD j 0 := hp
            refine lv_icmp_eq (tgt := 57) hxR hbR dX5_isWord_52 (by decide) (fun c_52 => ?_) (fun c_52 => ?_)
            · skip
              refine lv_iinc (v := nI (j + 1)) (lv' := [(2, .int (nI (j + 1))), (0, .ref (ad 45)), (1, .ref (E.1.2.1 w))]) hxR hbR dX5_isWord_57 hl (k := 2) rfl (show nI j + 1 = nI (j + 1) from nI_add _ 1) (by decide) rfl (fun ls hl => ?_)
              refine lv_goto (tgt := 28) hxR hbR dX5_isWord_60 (by decide) ?_
              exact ih_28 (j + 1) (by first | omega | with_reducible assumption) (lt_s hq c_52) (by omega) _ _ hI _ (lv_sub hl [1, 2, 0] rfl)
            · skip
              refine lv_iconst (v := 0) hxR hbR dX5_isWord_55 (by decide) ?_
              exact hret () 0 _ _ _ _ _ _ dX5_isWord_56 hI (by show 0 = b2i (isW b sz a w); rw [isW_f3 (by omega) c_52]; rfl) (Nat.le_of_ble_eq_true rfl) (Nat.le_of_ble_eq_true rfl) rfl
      exact lp_28 _ 0 (by first | omega | with_reducible assumption) (fun i h => absurd h (Nat.not_lt_zero _)) (Nat.lt_succ_self _) _ _ hI _ (lv_sub hl [1, 2, 0] rfl)
    · skip
      have c_21 : ¬ ((nx b sz a) - (fr b sz a)) = (sLen.getD w 0) := fun zz => c_21 ((n_eq (a := ((nx b sz a) - (fr b sz a))) (b := (sLen.getD w 0)) (by omega) (by omega)).mpr zz)
      refine lv_iconst (v := 0) hxR hbR dX5_isWord_24 (by decide) ?_
      exact hret () 0 _ _ _ _ _ _ dX5_isWord_25 hI (by show 0 = b2i (isW b sz a w); rw [isW_f2 c_21]; rfl) (Nat.le_of_ble_eq_true rfl) (Nat.le_of_ble_eq_true rfl) rfl

theorem c5_number (l : Launch) (E : En) (ad : Nat → Nat) (kp tr : Option Nat) (iv : Nat → Int32) (ia K : Nat → Nat → Int32) (R : Nat → Nat → Int64) (mv : Nat → Int64) (b : Nat → Nat) (sz : Nat) (a : Nat) (i0 : Nat) (lo hi : Int32) (hsz : iv 8 = nI sz) (hz : sz ≤ 250) (htp : tpOk (ia 7) b sz) (h22 : iv 22 = nI (nx b sz a)) (h23 : iv 23 = nI (kd b sz a)) (h24 : iv 24 = nI (fr b sz a)) (h25 : iv 25 = nI (fg b sz a)) (ha : a ≤ sz) (hi0 : i0 < 2) : CtI l E yX5_number cX5_number 4 .boolean 5 0 0 [.ref (ad 45), .int (nI i0), .int lo, .int hi] (mW E ad kp tr iv ia K R mv) (fun (r : Int32) (u : Int32 × Int32 × Int32 × Int32 × Int32 × (Nat → Int32)) => (r = 1 ∧ numE b sz a (Int32.toInt lo) (Int32.toInt hi) = .ok (fg b sz a, nx b sz a) ∧ nI (nx b sz (nx b sz a)) = u.1 ∧ nI (kd b sz (nx b sz a)) = u.2.1 ∧ nI (fr b sz (nx b sz a)) = u.2.2.1 ∧ nI (fg b sz (nx b sz a)) = u.2.2.2.1 ∧ iv 26 = u.2.2.2.2.1 ∧ va_up (ia 27) i0 (nI (fg b sz a)) = u.2.2.2.2.2) ∨ (r = 0 ∧ numE b sz a (Int32.toInt lo) (Int32.toInt hi) = .error (fr b sz a) ∧ nI (fr b sz a) = u.2.2.2.2.1)) (fun (u : Int32 × Int32 × Int32 × Int32 × Int32 × (Nat → Int32)) => mW E ad kp tr (va_up (va_up (va_up (va_up (va_up iv 22 u.1) 23 u.2.1) 24 u.2.2.1) 25 u.2.2.2.1) 26 u.2.2.2.2.1) (va_up ia 27 u.2.2.2.2.2) K R mv) := by
  have hfa := fr_le (b := b) ha
  have hna := nx_le (b := b) ha
  have hfn := nx_ge (b := b) (sz := sz) (a := a)
  have hka := kd_lt (b := b) (sz := sz) (a := a)
  have hga := fg_le htp.lt ha
  refine CtI.of (by decide +kernel) (Nat.le_of_ble_eq_true rfl) ?_
  intro pR eR sR mR aR bR tR cR AR ls QR hxR hbR hmlR hts hown hlk hnm hA hK hI hl hret
  have hl : lv_has ls 4 [(0, .ref (ad 45)), (1, .int (nI i0)), (2, .int lo), (3, .int hi)] := hl
  refine lv_aload_n hxR hbR dX5_number_0 rfl (lv_at hl 0 rfl) ?_
  refine r_get hxR hbR hts hown hK hI okX5 (ci := 5) rfl 16 mW_o 23 (by decide) q1501 rfl (v := .int (nI (kd b sz a))) (al h23) dX5_number_1 ?_
  refine lv_iconst (v := 2) hxR hbR dX5_number_4 (by decide) ?_
  refine lv_icmp_ne (tgt := 23) hxR hbR dX5_number_5 (by decide) (fun c_5 => ?_) (fun c_5 => ?_)
  · skip
    have c_5 : ¬ (kd b sz a) = 2 := fun zz => c_5 ((n_eq (a := (kd b sz a)) (b := 2) (by omega) (by omega)).mpr zz)
    refine lv_aload_n hxR hbR dX5_number_23 rfl (lv_at hl 0 rfl) ?_
    refine kVI (n := 0) (As := []) (rest := []) (fun w => w) hxR hbR hmlR hts hown hK hA hl.1 isCtx.id hI (c5_wrong l E ad kp tr iv ia K R mv  ) (lw_V q1823 q1825 qs58 q86 q1826) ⟨rfl, by decide +kernel⟩ 16 5 rfl rfl mW_o rfl (Nat.le_of_ble_eq_true rfl) (Nat.le_of_ble_eq_true rfl) ⟨Nat.le_of_ble_eq_true rfl, Nat.le_of_ble_eq_true rfl⟩ (Nat.le_of_ble_eq_true rfl) dX5_number_24 (fun r_24 u H locs hp hI hz => ?_)
    have hI : wI E AR sR H locs (mW E ad kp tr (va_up iv 26 (iv 24)) ia K R mv) := hI
    have hp : r_24 = 0 := hp
    have hr_24 := hp
    subst hr_24
    have hI := wI_w (ws' := mW E ad kp tr (va_up (va_up (va_up (va_up (va_up iv 22 (nI (nx b sz a))) 23 (nI (kd b sz a))) 24 (nI (fr b sz a))) 25 (nI (fg b sz a))) 26 (iv 24)) (va_up ia 27 (ia 27)) K R mv) (by rw [va_up_id (f := iv) (k := 22) (v := (nI (nx b sz a))) h22, va_up_id (f := iv) (k := 23) (v := (nI (kd b sz a))) h23, va_up_id (f := iv) (k := 24) (v := (nI (fr b sz a))) h24, va_up_id (f := iv) (k := 25) (v := (nI (fg b sz a))) h25, va_up_id (f := ia) (k := 27) (v := (ia 27)) rfl]; try rfl) hI
    exact hret (nI (nx b sz a), nI (kd b sz a), nI (fr b sz a), nI (fg b sz a), iv 24, ia 27) 0 _ _ 0 0 _ _ dX5_number_27 hI (by show (0 = 1 ∧ numE b sz a (Int32.toInt lo) (Int32.toInt hi) = .ok (fg b sz a, nx b sz a) ∧ nI (nx b sz (nx b sz a)) = (nI (nx b sz a)) ∧ nI (kd b sz (nx b sz a)) = (nI (kd b sz a)) ∧ nI (fr b sz (nx b sz a)) = (nI (fr b sz a)) ∧ nI (fg b sz (nx b sz a)) = (nI (fg b sz a)) ∧ iv 26 = (iv 24) ∧ va_up (ia 27) i0 (nI (fg b sz a)) = (ia 27)) ∨ (0 = 0 ∧ numE b sz a (Int32.toInt lo) (Int32.toInt hi) = .error (fr b sz a) ∧ nI (fr b sz a) = (iv 24)); exact Or.inr ⟨rfl, numE_f1 c_5, h24.symm⟩) (Nat.le_of_ble_eq_true rfl) (Nat.le_of_ble_eq_true rfl) rfl
  · skip
    have c_5 : (kd b sz a) = 2 := (n_eq (a := (kd b sz a)) (b := 2) (by omega) (by omega)).mp c_5
    refine lv_aload_n hxR hbR dX5_number_8 rfl (lv_at hl 0 rfl) ?_
    refine r_get hxR hbR hts hown hK hI okX5 (ci := 5) rfl 16 mW_o 25 (by decide) q1503 rfl (v := .int (nI (fg b sz a))) (al h25) dX5_number_9 ?_
    refine lv_i2l (v := (nI (fg b sz a)).toInt64) hxR hbR dX5_number_12 rfl ?_
    refine lv_iload_n hxR hbR dX5_number_13 rfl (lv_at hl 2 rfl) ?_
    refine lv_i2l (v := lo.toInt64) hxR hbR dX5_number_14 rfl ?_
    refine lv_iload_n hxR hbR dX5_number_15 rfl (lv_at hl 3 rfl) ?_
    refine lv_i2l (v := hi.toInt64) hxR hbR dX5_number_16 rfl ?_
    refine kSI (n := 3) (As := [.long ((nI (fg b sz a)).toInt64), .long lo.toInt64, .long hi.toInt64]) (rest := []) (fun w => w ++ (mW E ad kp tr iv ia K R mv)) hxR hbR hmlR hts hown hK hA hl.1 (isCtx.suf _) hI (c5_in l E  ((nI (fg b sz a)).toInt64) lo.toInt64 hi.toInt64 ) (lw_S q1619 q1620 q86 q1621) (by decide +kernel) rfl (Nat.le_of_ble_eq_true rfl) (Nat.le_of_ble_eq_true rfl) ⟨Nat.le_of_ble_eq_true rfl, Nat.le_of_ble_eq_true rfl⟩ (Nat.le_of_ble_eq_true rfl) dX5_number_17 (fun r_17 u H locs hp hI hz => ?_)
    have hI : wI E AR sR H locs (mW E ad kp tr iv ia K R mv) := hI
    have hp : r_17 = b2i (inL ((nI (fg b sz a)).toInt64) lo.toInt64 hi.toInt64) := hp
    have hr_17 := hp
    rcases b2i_cases hr_17 with ⟨c_17, rfl⟩ | ⟨c_17, rfl⟩
    · skip
      have c_17 : lo.toInt64.toInt ≤ ((nI (fg b sz a)).toInt64).toInt ∧ ((nI (fg b sz a)).toInt64).toInt ≤ hi.toInt64.toInt := of_decide_eq_true c_17
      have c_17 : lo.toInt ≤ (fg b sz a : Int) ∧ (fg b sz a : Int) ≤ hi.toInt := by simp only [Int32.toInt_toInt64] at c_17; rw [nI_toInt (by omega)] at c_17; exact c_17
      refine lv_if_ne (tgt := 28) hxR hbR dX5_number_20 (by decide) (fun _ => ?_) (fun c => absurd c (by decide))
      refine lv_aload_n hxR hbR dX5_number_28 rfl (lv_at hl 0 rfl) ?_
      refine r_get hxR hbR hts hown hK hI okX5 (ci := 5) rfl 16 mW_o 27 (by decide) q1505 rfl (v := .ref (ad 27)) rfl dX5_number_29 ?_
      refine lv_iload_n hxR hbR dX5_number_32 rfl (lv_at hl 1 rfl) ?_
      refine lv_aload_n hxR hbR dX5_number_33 rfl (lv_at hl 0 rfl) ?_
      refine r_get hxR hbR hts hown hK hI okX5 (ci := 5) rfl 16 mW_o 25 (by decide) q1503 rfl (v := .int (nI (fg b sz a))) (al h25) dX5_number_34 ?_
      refine r_iast (ws1 := mW E ad kp tr iv (va_up ia 27 (va_up (ia 27) i0 (nI (fg b sz a)))) K R mv) hxR hbR hK hI 29 (n := 2) (J := i0) (f := ia 27) (mW_g27 rfl) (by omega) (by decide) mW_a27 dX5_number_37 (fun H locs hI => ?_)
      refine lv_aload_n hxR hbR dX5_number_38 rfl (lv_at hl 0 rfl) ?_
      refine kVV (n := 0) (As := []) (rest := []) (fun w => w) hxR hbR hmlR hts hown hK hA hl.1 isCtx.id hI (c5_look l E ad kp tr iv (va_up ia 27 (va_up (ia 27) i0 (nI (fg b sz a)))) K R mv b sz (nx b sz a) hsz (by first | omega | with_reducible assumption) (tpOk.of (up_n (by decide) rfl) htp) h22 (by first | omega | with_reducible assumption)) (lw_V q1776 q1778 qs53 q86 q1779) ⟨rfl, by decide +kernel⟩ 16 5 rfl rfl mW_o rfl (Nat.le_of_ble_eq_true rfl) (Nat.le_of_ble_eq_true rfl) ⟨Nat.le_of_ble_eq_true rfl, Nat.le_of_ble_eq_true rfl⟩ (Nat.le_of_ble_eq_true rfl) dX5_number_39 (fun u H locs hp hI hz => ?_)
      have hI : wI E AR sR H locs (mW E ad kp tr (va_up (va_up (va_up (va_up iv 22 (nI (nx b sz (nx b sz a)))) 23 (nI (kd b sz (nx b sz a)))) 24 (nI (fr b sz (nx b sz a)))) 25 (nI (fg b sz (nx b sz a)))) (va_up ia 27 (va_up (ia 27) i0 (nI (fg b sz a)))) K R mv) := hI
      refine lv_iconst (v := 1) hxR hbR dX5_number_42 (by decide) ?_
      have hI := wI_w (ws' := mW E ad kp tr (va_up (va_up (va_up (va_up (va_up iv 22 (nI (nx b sz (nx b sz a)))) 23 (nI (kd b sz (nx b sz a)))) 24 (nI (fr b sz (nx b sz a)))) 25 (nI (fg b sz (nx b sz a)))) 26 (iv 26)) (va_up ia 27 (va_up (ia 27) i0 (nI (fg b sz a)))) K R mv) (by rw [va_up_id (f := (va_up (va_up (va_up (va_up iv 22 (nI (nx b sz (nx b sz a)))) 23 (nI (kd b sz (nx b sz a)))) 24 (nI (fr b sz (nx b sz a)))) 25 (nI (fg b sz (nx b sz a))))) (k := 26) (v := (iv 26)) (up_n (by decide) (up_n (by decide) (up_n (by decide) (up_n (by decide) rfl))))]; try rfl) hI
      exact hret (nI (nx b sz (nx b sz a)), nI (kd b sz (nx b sz a)), nI (fr b sz (nx b sz a)), nI (fg b sz (nx b sz a)), iv 26, va_up (ia 27) i0 (nI (fg b sz a))) 1 _ _ 0 0 _ _ dX5_number_43 hI (by show (1 = 1 ∧ numE b sz a (Int32.toInt lo) (Int32.toInt hi) = .ok (fg b sz a, nx b sz a) ∧ nI (nx b sz (nx b sz a)) = (nI (nx b sz (nx b sz a))) ∧ nI (kd b sz (nx b sz a)) = (nI (kd b sz (nx b sz a))) ∧ nI (fr b sz (nx b sz a)) = (nI (fr b sz (nx b sz a))) ∧ nI (fg b sz (nx b sz a)) = (nI (fg b sz (nx b sz a))) ∧ iv 26 = (iv 26) ∧ va_up (ia 27) i0 (nI (fg b sz a)) = (va_up (ia 27) i0 (nI (fg b sz a)))) ∨ (1 = 0 ∧ numE b sz a (Int32.toInt lo) (Int32.toInt hi) = .error (fr b sz a) ∧ nI (fr b sz a) = (iv 26)); exact Or.inl ⟨rfl, numE_t c_5 c_17, rfl, rfl, rfl, rfl, rfl, rfl⟩) (Nat.le_of_ble_eq_true rfl) (Nat.le_of_ble_eq_true rfl) rfl
    · skip
      have c_17 : ¬ (lo.toInt64.toInt ≤ ((nI (fg b sz a)).toInt64).toInt ∧ ((nI (fg b sz a)).toInt64).toInt ≤ hi.toInt64.toInt) := of_decide_eq_false c_17
      have c_17 : ¬ (lo.toInt ≤ (fg b sz a : Int) ∧ (fg b sz a : Int) ≤ hi.toInt) := by simp only [Int32.toInt_toInt64] at c_17; rw [nI_toInt (by omega)] at c_17; exact c_17
      refine lv_if_ne (tgt := 28) hxR hbR dX5_number_20 (by decide) (fun c => absurd c (by decide)) (fun _ => ?_)
      refine lv_aload_n hxR hbR dX5_number_23 rfl (lv_at hl 0 rfl) ?_
      refine kVI (n := 0) (As := []) (rest := []) (fun w => w) hxR hbR hmlR hts hown hK hA hl.1 isCtx.id hI (c5_wrong l E ad kp tr iv ia K R mv  ) (lw_V q1823 q1825 qs58 q86 q1826) ⟨rfl, by decide +kernel⟩ 16 5 rfl rfl mW_o rfl (Nat.le_of_ble_eq_true rfl) (Nat.le_of_ble_eq_true rfl) ⟨Nat.le_of_ble_eq_true rfl, Nat.le_of_ble_eq_true rfl⟩ (Nat.le_of_ble_eq_true rfl) dX5_number_24 (fun r_24 u H locs hp hI hz => ?_)
      have hI : wI E AR sR H locs (mW E ad kp tr (va_up iv 26 (iv 24)) ia K R mv) := hI
      have hp : r_24 = 0 := hp
      have hr_24 := hp
      subst hr_24
      have hI := wI_w (ws' := mW E ad kp tr (va_up (va_up (va_up (va_up (va_up iv 22 (nI (nx b sz a))) 23 (nI (kd b sz a))) 24 (nI (fr b sz a))) 25 (nI (fg b sz a))) 26 (iv 24)) (va_up ia 27 (ia 27)) K R mv) (by rw [va_up_id (f := iv) (k := 22) (v := (nI (nx b sz a))) h22, va_up_id (f := iv) (k := 23) (v := (nI (kd b sz a))) h23, va_up_id (f := iv) (k := 24) (v := (nI (fr b sz a))) h24, va_up_id (f := iv) (k := 25) (v := (nI (fg b sz a))) h25, va_up_id (f := ia) (k := 27) (v := (ia 27)) rfl]; try rfl) hI
      exact hret (nI (nx b sz a), nI (kd b sz a), nI (fr b sz a), nI (fg b sz a), iv 24, ia 27) 0 _ _ 0 0 _ _ dX5_number_27 hI (by show (0 = 1 ∧ numE b sz a (Int32.toInt lo) (Int32.toInt hi) = .ok (fg b sz a, nx b sz a) ∧ nI (nx b sz (nx b sz a)) = (nI (nx b sz a)) ∧ nI (kd b sz (nx b sz a)) = (nI (kd b sz a)) ∧ nI (fr b sz (nx b sz a)) = (nI (fr b sz a)) ∧ nI (fg b sz (nx b sz a)) = (nI (fg b sz a)) ∧ iv 26 = (iv 24) ∧ va_up (ia 27) i0 (nI (fg b sz a)) = (ia 27)) ∨ (0 = 0 ∧ numE b sz a (Int32.toInt lo) (Int32.toInt hi) = .error (fr b sz a) ∧ nI (fr b sz a) = (iv 24)); exact Or.inr ⟨rfl, numE_f2 c_17, h24.symm⟩) (Nat.le_of_ble_eq_true rfl) (Nat.le_of_ble_eq_true rfl) rfl

theorem c5_tells (l : Launch) (E : En) (ad : Nat → Nat) (kp tr : Option Nat) (iv : Nat → Int32) (ia K : Nat → Nat → Int32) (R : Nat → Nat → Int64) (mv : Nat → Int64) (b : Nat → Nat) (sz : Nat) (a : Nat) (lo hi : Int32) (hsz : iv 8 = nI sz) (hz : sz ≤ 250) (htp : tpOk (ia 7) b sz) (h22 : iv 22 = nI (nx b sz a)) (h23 : iv 23 = nI (kd b sz a)) (h24 : iv 24 = nI (fr b sz a)) (h25 : iv 25 = nI (fg b sz a)) (ha : a ≤ sz) : CtI l E yX5_tells cX5_tells 3 .boolean 6 0 0 [.ref (ad 45), .int lo, .int hi] (mW E ad kp tr iv ia K R mv) (fun (r : Int32) (u : Int32 × Int32 × Int32 × Int32 × Int32 × (Nat → Int32)) => (r = 1 ∧ numE b sz (nx b sz a) (Int32.toInt lo) (Int32.toInt hi) = .ok (fg b sz (nx b sz a), nx b sz (nx b sz a)) ∧ nI (nx b sz (nx b sz (nx b sz a))) = u.1 ∧ nI (kd b sz (nx b sz (nx b sz a))) = u.2.1 ∧ nI (fr b sz (nx b sz (nx b sz a))) = u.2.2.1 ∧ nI (fg b sz (nx b sz (nx b sz a))) = u.2.2.2.1 ∧ iv 26 = u.2.2.2.2.1 ∧ va_up (ia 27) 0 (nI (fg b sz (nx b sz a))) = u.2.2.2.2.2) ∨ (r = 0 ∧ numE b sz (nx b sz a) (Int32.toInt lo) (Int32.toInt hi) = .error (fr b sz (nx b sz a)) ∧ nI (fr b sz (nx b sz a)) = u.2.2.2.2.1)) (fun (u : Int32 × Int32 × Int32 × Int32 × Int32 × (Nat → Int32)) => mW E ad kp tr (va_up (va_up (va_up (va_up (va_up iv 22 u.1) 23 u.2.1) 24 u.2.2.1) 25 u.2.2.2.1) 26 u.2.2.2.2.1) (va_up ia 27 u.2.2.2.2.2) K R mv) := by
  have hfa := fr_le (b := b) ha
  have hna := nx_le (b := b) ha
  have hfn := nx_ge (b := b) (sz := sz) (a := a)
  have hka := kd_lt (b := b) (sz := sz) (a := a)
  have hga := fg_le htp.lt ha
  refine CtI.of (by decide +kernel) (Nat.le_of_ble_eq_true rfl) ?_
  intro pR eR sR mR aR bR tR cR AR ls QR hxR hbR hmlR hts hown hlk hnm hA hK hI hl hret
  have hl : lv_has ls 3 [(0, .ref (ad 45)), (1, .int lo), (2, .int hi)] := hl
  refine lv_aload_n hxR hbR dX5_tells_0 rfl (lv_at hl 0 rfl) ?_
  refine kVV (n := 0) (As := []) (rest := []) (fun w => w) hxR hbR hmlR hts hown hK hA hl.1 isCtx.id hI (c5_look l E ad kp tr iv ia K R mv b sz (nx b sz a) hsz (by first | omega | with_reducible assumption) (tpOk.of rfl htp) h22 (by first | omega | with_reducible assumption)) (lw_V q1776 q1778 qs53 q86 q1779) ⟨rfl, by decide +kernel⟩ 16 5 rfl rfl mW_o rfl (Nat.le_of_ble_eq_true rfl) (Nat.le_of_ble_eq_true rfl) ⟨Nat.le_of_ble_eq_true rfl, Nat.le_of_ble_eq_true rfl⟩ (Nat.le_of_ble_eq_true rfl) dX5_tells_1 (fun u H locs hp hI hz => ?_)
  have hI : wI E AR sR H locs (mW E ad kp tr (va_up (va_up (va_up (va_up iv 22 (nI (nx b sz (nx b sz a)))) 23 (nI (kd b sz (nx b sz a)))) 24 (nI (fr b sz (nx b sz a)))) 25 (nI (fg b sz (nx b sz a)))) ia K R mv) := hI
  refine lv_aload_n hxR hbR dX5_tells_4 rfl (lv_at hl 0 rfl) ?_
  refine lv_iconst (v := 0) hxR hbR dX5_tells_5 (by decide) ?_
  refine lv_iload_n hxR hbR dX5_tells_6 rfl (lv_at hl 1 rfl) ?_
  refine lv_iload_n hxR hbR dX5_tells_7 rfl (lv_at hl 2 rfl) ?_
  refine kVI (n := 3) (As := [.int 0, .int lo, .int hi]) (rest := []) (fun w => w) hxR hbR hmlR hts hown hK hA hl.1 isCtx.id hI (c5_number l E ad kp tr (va_up (va_up (va_up (va_up iv 22 (nI (nx b sz (nx b sz a)))) 23 (nI (kd b sz (nx b sz a)))) 24 (nI (fr b sz (nx b sz a)))) 25 (nI (fg b sz (nx b sz a)))) ia K R mv b sz (nx b sz a) 0 lo hi (up_n (by decide) (up_n (by decide) (up_n (by decide) (up_n (by decide) hsz)))) (by first | omega | with_reducible assumption) (tpOk.of rfl htp) (up_n (by decide) (up_n (by decide) (up_n (by decide) va_up_s))) (up_n (by decide) (up_n (by decide) va_up_s)) (up_n (by decide) va_up_s) va_up_s (by first | omega | with_reducible assumption) (by first | omega | with_reducible assumption)) (lw_V q1819 q1821 qs57 q86 q1822) ⟨rfl, by decide +kernel⟩ 16 5 rfl rfl mW_o rfl (Nat.le_of_ble_eq_true rfl) (Nat.le_of_ble_eq_true rfl) ⟨Nat.le_of_ble_eq_true rfl, Nat.le_of_ble_eq_true rfl⟩ (Nat.le_of_ble_eq_true rfl) dX5_tells_8 (fun r_8 u H locs hp hI hz => ?_)
  obtain ⟨c22_8, c23_8, c24_8, c25_8, c26_8, g27_8⟩ := u
  have hI : wI E AR sR H locs (mW E ad kp tr (va_up (va_up (va_up (va_up (va_up (va_up (va_up (va_up (va_up iv 22 (nI (nx b sz (nx b sz a)))) 23 (nI (kd b sz (nx b sz a)))) 24 (nI (fr b sz (nx b sz a)))) 25 (nI (fg b sz (nx b sz a)))) 22 c22_8) 23 c23_8) 24 c24_8) 25 c25_8) 26 c26_8) (va_up ia 27 g27_8) K R mv) := hI
  have hI := wI_w (ws' := mW E ad kp tr (va_up (va_up (va_up (va_up (va_up iv 22 c22_8) 23 c23_8) 24 c24_8) 25 c25_8) 26 c26_8) (va_up ia 27 g27_8) K R mv) (by rw [(show (va_up (va_up (va_up (va_up (va_up iv 22 c22_8) 23 c23_8) 24 c24_8) 25 c25_8) 26 c26_8) = (va_up (va_up (va_up (va_up (va_up (va_up (va_up (va_up (va_up iv 22 (nI (nx b sz (nx b sz a)))) 23 (nI (kd b sz (nx b sz a)))) 24 (nI (fr b sz (nx b sz a)))) 25 (nI (fg b sz (nx b sz a)))) 22 c22_8) 23 c23_8) 24 c24_8) 25 c25_8) 26 c26_8) from ((congrArg (fun z => va_up z 26 c26_8) (Eq.trans (congrArg (fun z => va_up z 25 c25_8) (Eq.trans (congrArg (fun z => va_up z 24 c24_8) (Eq.trans (congrArg (fun z => va_up z 23 c23_8) (up_s (by decide) (up_s (by decide) (up_s (by decide) up_0)))) (up_s (by decide) (up_s (by decide) up_0)))) (up_s (by decide) up_0))) up_0))).symm)]) hI
  have hI : wI E AR sR H locs (mW E ad kp tr (va_up (va_up (va_up (va_up (va_up iv 22 c22_8) 23 c23_8) 24 c24_8) 25 c25_8) 26 c26_8) (va_up ia 27 g27_8) K R mv) := hI
  have hp : (r_8 = 1 ∧ numE b sz (nx b sz a) (Int32.toInt lo) (Int32.toInt hi) = .ok (fg b sz (nx b sz a), nx b sz (nx b sz a)) ∧ nI (nx b sz (nx b sz (nx b sz a))) = c22_8 ∧ nI (kd b sz (nx b sz (nx b sz a))) = c23_8 ∧ nI (fr b sz (nx b sz (nx b sz a))) = c24_8 ∧ nI (fg b sz (nx b sz (nx b sz a))) = c25_8 ∧ (iv 26) = c26_8 ∧ va_up (ia 27) 0 (nI (fg b sz (nx b sz a))) = g27_8) ∨ (r_8 = 0 ∧ numE b sz (nx b sz a) (Int32.toInt lo) (Int32.toInt hi) = .error (fr b sz (nx b sz a)) ∧ nI (fr b sz (nx b sz a)) = c26_8) := hp
  have h2_8 := hp
  rcases h2_8 with ⟨rfl, f0_8, rfl, rfl, rfl, rfl, rfl, rfl⟩ | ⟨rfl, f0_8, rfl⟩
  · skip
    have f0_8 : numE b sz (nx b sz a) (Int32.toInt lo) (Int32.toInt hi) = .ok (fg b sz (nx b sz a), nx b sz (nx b sz a)) := f0_8
    have hI : wI E AR sR H locs (mW E ad kp tr (va_up (va_up (va_up (va_up (va_up iv 22 (nI (nx b sz (nx b sz (nx b sz a))))) 23 (nI (kd b sz (nx b sz (nx b sz a))))) 24 (nI (fr b sz (nx b sz (nx b sz a))))) 25 (nI (fg b sz (nx b sz (nx b sz a))))) 26 (iv 26)) (va_up ia 27 (va_up (ia 27) 0 (nI (fg b sz (nx b sz a))))) K R mv) := hI
    have hI : wI E AR sR H locs (mW E ad kp tr (va_up (va_up (va_up (va_up (va_up iv 22 (nI (nx b sz (nx b sz (nx b sz a))))) 23 (nI (kd b sz (nx b sz (nx b sz a))))) 24 (nI (fr b sz (nx b sz (nx b sz a))))) 25 (nI (fg b sz (nx b sz (nx b sz a))))) 26 (iv 26)) (va_up ia 27 (va_up (ia 27) 0 (nI (fg b sz (nx b sz a))))) K R mv) := hI
    exact hret (nI (nx b sz (nx b sz (nx b sz a))), nI (kd b sz (nx b sz (nx b sz a))), nI (fr b sz (nx b sz (nx b sz a))), nI (fg b sz (nx b sz (nx b sz a))), (iv 26), (va_up (ia 27) 0 (nI (fg b sz (nx b sz a))))) 1 _ _ 0 0 _ _ dX5_tells_11 hI (by show (1 = 1 ∧ numE b sz (nx b sz a) (Int32.toInt lo) (Int32.toInt hi) = .ok (fg b sz (nx b sz a), nx b sz (nx b sz a)) ∧ nI (nx b sz (nx b sz (nx b sz a))) = (nI (nx b sz (nx b sz (nx b sz a)))) ∧ nI (kd b sz (nx b sz (nx b sz a))) = (nI (kd b sz (nx b sz (nx b sz a)))) ∧ nI (fr b sz (nx b sz (nx b sz a))) = (nI (fr b sz (nx b sz (nx b sz a)))) ∧ nI (fg b sz (nx b sz (nx b sz a))) = (nI (fg b sz (nx b sz (nx b sz a)))) ∧ iv 26 = (iv 26) ∧ va_up (ia 27) 0 (nI (fg b sz (nx b sz a))) = (va_up (ia 27) 0 (nI (fg b sz (nx b sz a))))) ∨ (1 = 0 ∧ numE b sz (nx b sz a) (Int32.toInt lo) (Int32.toInt hi) = .error (fr b sz (nx b sz a)) ∧ nI (fr b sz (nx b sz a)) = (iv 26)); exact Or.inl ⟨rfl, f0_8, rfl, rfl, rfl, rfl, rfl, rfl⟩) (Nat.le_of_ble_eq_true rfl) (Nat.le_of_ble_eq_true rfl) rfl
  · skip
    have f0_8 : numE b sz (nx b sz a) (Int32.toInt lo) (Int32.toInt hi) = .error (fr b sz (nx b sz a)) := f0_8
    have hI : wI E AR sR H locs (mW E ad kp tr (va_up (va_up (va_up (va_up (va_up iv 22 c22_8) 23 c23_8) 24 c24_8) 25 c25_8) 26 (nI (fr b sz (nx b sz a)))) (va_up ia 27 g27_8) K R mv) := hI
    have hI : wI E AR sR H locs (mW E ad kp tr (va_up (va_up (va_up (va_up (va_up iv 22 c22_8) 23 c23_8) 24 c24_8) 25 c25_8) 26 (nI (fr b sz (nx b sz a)))) (va_up ia 27 g27_8) K R mv) := hI
    exact hret (c22_8, c23_8, c24_8, c25_8, nI (fr b sz (nx b sz a)), g27_8) 0 _ _ 0 0 _ _ dX5_tells_11 hI (by show (0 = 1 ∧ numE b sz (nx b sz a) (Int32.toInt lo) (Int32.toInt hi) = .ok (fg b sz (nx b sz a), nx b sz (nx b sz a)) ∧ nI (nx b sz (nx b sz (nx b sz a))) = c22_8 ∧ nI (kd b sz (nx b sz (nx b sz a))) = c23_8 ∧ nI (fr b sz (nx b sz (nx b sz a))) = c24_8 ∧ nI (fg b sz (nx b sz (nx b sz a))) = c25_8 ∧ iv 26 = (nI (fr b sz (nx b sz a))) ∧ va_up (ia 27) 0 (nI (fg b sz (nx b sz a))) = g27_8) ∨ (0 = 0 ∧ numE b sz (nx b sz a) (Int32.toInt lo) (Int32.toInt hi) = .error (fr b sz (nx b sz a)) ∧ nI (fr b sz (nx b sz a)) = (nI (fr b sz (nx b sz a)))); exact Or.inr ⟨rfl, f0_8, rfl⟩) (Nat.le_of_ble_eq_true rfl) (Nat.le_of_ble_eq_true rfl) rfl

theorem c5_twoTold (l : Launch) (E : En) (ad : Nat → Nat) (kp tr : Option Nat) (iv : Nat → Int32) (ia K : Nat → Nat → Int32) (R : Nat → Nat → Int64) (mv : Nat → Int64) (b : Nat → Nat) (sz : Nat) (a : Nat) (n : Nat) (hsz : iv 8 = nI sz) (hz : sz ≤ 250) (htp : tpOk (ia 7) b sz) (h22 : iv 22 = nI (nx b sz a)) (h23 : iv 23 = nI (kd b sz a)) (h24 : iv 24 = nI (fr b sz a)) (h25 : iv 25 = nI (fg b sz a)) (ha : a ≤ sz) (hn : iv 10 = nI n) (hn7 : n ≤ 7) : CtI l E yX5_twoTold cX5_twoTold 1 .boolean 8 0 0 [.ref (ad 45)] (mW E ad kp tr iv ia K R mv) (fun (r : Int32) (u : Int32 × Int32 × Int32 × Int32 × Int32 × (Nat → Int32)) => (∃ x_e : Nat, ∃ y_e : Nat, ∃ p_e : Nat, r = 1 ∧ twoE b sz n a = .ok (x_e, y_e, p_e) ∧ p_e ≤ sz ∧ (x_e < n ∧ y_e < n) ∧ nI (nx b sz p_e) = u.1 ∧ nI (kd b sz p_e) = u.2.1 ∧ nI (fr b sz p_e) = u.2.2.1 ∧ nI (fg b sz p_e) = u.2.2.2.1 ∧ va_up (va_up (ia 27) 0 (nI x_e)) 1 (nI y_e) = u.2.2.2.2.2) ∨ (∃ f_e : Nat, r = 0 ∧ twoE b sz n a = .error f_e ∧ nI (f_e) = u.2.2.2.2.1)) (fun (u : Int32 × Int32 × Int32 × Int32 × Int32 × (Nat → Int32)) => mW E ad kp tr (va_up (va_up (va_up (va_up (va_up iv 22 u.1) 23 u.2.1) 24 u.2.2.1) 25 u.2.2.2.1) 26 u.2.2.2.2.1) (va_up ia 27 u.2.2.2.2.2) K R mv) := by
  have hfa := fr_le (b := b) ha
  have hna := nx_le (b := b) ha
  have hfn := nx_ge (b := b) (sz := sz) (a := a)
  have hka := kd_lt (b := b) (sz := sz) (a := a)
  have hga := fg_le htp.lt ha
  have hN1 : (nI n - 1).toInt = (n : Int) - 1 := nI_m1 (by omega)
  have hn2 := nx_le (b := b) hna
  have hn3 := nx_le (b := b) hn2
  have hka2 := kd_lt (b := b) (sz := sz) (a := nx b sz (nx b sz a))
  have hga1 := fg_le htp.lt hna
  have hga2 := fg_le htp.lt hn2
  refine CtI.of (by decide +kernel) (Nat.le_of_ble_eq_true rfl) ?_
  intro pR eR sR mR aR bR tR cR AR ls QR hxR hbR hmlR hts hown hlk hnm hA hK hI hl hret
  have hl : lv_has ls 1 [(0, .ref (ad 45))] := hl
  refine lv_aload_n hxR hbR dX5_twoTold_0 rfl (lv_at hl 0 rfl) ?_
  refine lv_iconst (v := 0) hxR hbR dX5_twoTold_1 (by decide) ?_
  refine lv_aload_n hxR hbR dX5_twoTold_2 rfl (lv_at hl 0 rfl) ?_
  refine r_get hxR hbR hts hown hK hI okX5 (ci := 5) rfl 16 mW_o 10 (by decide) q1488 rfl (v := .int (nI n)) (al hn) dX5_twoTold_3 ?_
  refine lv_iconst (v := 1) hxR hbR dX5_twoTold_6 (by decide) ?_
  refine lv_isub hxR hbR dX5_twoTold_7 ?_
  refine kVI (n := 2) (As := [.int 0, .int ((nI n) - 1)]) (rest := []) (fun w => w) hxR hbR hmlR hts hown hK hA hl.1 isCtx.id hI (c5_tells l E ad kp tr iv ia K R mv b sz a 0 ((nI n) - 1) hsz (by first | omega | with_reducible assumption) (tpOk.of rfl htp) h22 h23 h24 h25 (by first | omega | with_reducible assumption)) (lw_V q1815 q1817 qs56 q86 q1818) ⟨rfl, by decide +kernel⟩ 16 5 rfl rfl mW_o rfl (Nat.le_of_ble_eq_true rfl) (Nat.le_of_ble_eq_true rfl) ⟨Nat.le_of_ble_eq_true rfl, Nat.le_of_ble_eq_true rfl⟩ (Nat.le_of_ble_eq_true rfl) dX5_twoTold_8 (fun r_8 u H locs hp hI hz => ?_)
  obtain ⟨c22_8, c23_8, c24_8, c25_8, c26_8, g27_8⟩ := u
  have hI : wI E AR sR H locs (mW E ad kp tr (va_up (va_up (va_up (va_up (va_up iv 22 c22_8) 23 c23_8) 24 c24_8) 25 c25_8) 26 c26_8) (va_up ia 27 g27_8) K R mv) := hI
  have hp : (r_8 = 1 ∧ numE b sz (nx b sz a) (Int32.toInt 0) (Int32.toInt ((nI n) - 1)) = .ok (fg b sz (nx b sz a), nx b sz (nx b sz a)) ∧ nI (nx b sz (nx b sz (nx b sz a))) = c22_8 ∧ nI (kd b sz (nx b sz (nx b sz a))) = c23_8 ∧ nI (fr b sz (nx b sz (nx b sz a))) = c24_8 ∧ nI (fg b sz (nx b sz (nx b sz a))) = c25_8 ∧ iv 26 = c26_8 ∧ va_up (ia 27) 0 (nI (fg b sz (nx b sz a))) = g27_8) ∨ (r_8 = 0 ∧ numE b sz (nx b sz a) (Int32.toInt 0) (Int32.toInt ((nI n) - 1)) = .error (fr b sz (nx b sz a)) ∧ nI (fr b sz (nx b sz a)) = c26_8) := hp
  have h2_8 := hp
  rcases h2_8 with ⟨rfl, f0_8, rfl, rfl, rfl, rfl, rfl, rfl⟩ | ⟨rfl, f0_8, rfl⟩
  · skip
    have f0_8 : numE b sz (nx b sz a) 0 (Int32.toInt ((nI n) - 1)) = .ok (fg b sz (nx b sz a), nx b sz (nx b sz a)) := f0_8
    have hI : wI E AR sR H locs (mW E ad kp tr (va_up (va_up (va_up (va_up (va_up iv 22 (nI (nx b sz (nx b sz (nx b sz a))))) 23 (nI (kd b sz (nx b sz (nx b sz a))))) 24 (nI (fr b sz (nx b sz (nx b sz a))))) 25 (nI (fg b sz (nx b sz (nx b sz a))))) 26 (iv 26)) (va_up ia 27 (va_up (ia 27) 0 (nI (fg b sz (nx b sz a))))) K R mv) := hI
    rw [hN1] at f0_8
    have hx8 := numE_ok f0_8
    refine lv_if_ne (tgt := 16) hxR hbR dX5_twoTold_11 (by decide) (fun _ => ?_) (fun c => absurd c (by decide))
    refine lv_aload_n hxR hbR dX5_twoTold_16 rfl (lv_at hl 0 rfl) ?_
    refine r_get hxR hbR hts hown hK hI okX5 (ci := 5) rfl 16 mW_o 23 (by decide) q1501 rfl (v := .int (nI (kd b sz (nx b sz (nx b sz a))))) (al (up_n (by decide) (up_n (by decide) (up_n (by decide) va_up_s)))) dX5_twoTold_17 ?_
    refine lv_iconst (v := 2) hxR hbR dX5_twoTold_20 (by decide) ?_
    refine lv_icmp_ne (tgt := 42) hxR hbR dX5_twoTold_21 (by decide) (fun c_21 => ?_) (fun c_21 => ?_)
    · skip
      have c_21 : ¬ (kd b sz (nx b sz (nx b sz a))) = 2 := fun zz => c_21 ((n_eq (a := (kd b sz (nx b sz (nx b sz a)))) (b := 2) (by omega) (by omega)).mpr zz)
      refine lv_aload_n hxR hbR dX5_twoTold_42 rfl (lv_at hl 0 rfl) ?_
      refine lv_iconst (v := 1) hxR hbR dX5_twoTold_43 (by decide) ?_
      refine lv_iconst (v := 0) hxR hbR dX5_twoTold_44 (by decide) ?_
      refine lv_aload_n hxR hbR dX5_twoTold_45 rfl (lv_at hl 0 rfl) ?_
      refine r_get hxR hbR hts hown hK hI okX5 (ci := 5) rfl 16 mW_o 10 (by decide) q1488 rfl (v := .int (nI n)) (al (up_n (by decide) (up_n (by decide) (up_n (by decide) (up_n (by decide) (up_n (by decide) hn)))))) dX5_twoTold_46 ?_
      refine lv_iconst (v := 1) hxR hbR dX5_twoTold_49 (by decide) ?_
      refine lv_isub hxR hbR dX5_twoTold_50 ?_
      refine kVI (n := 3) (As := [.int 1, .int 0, .int ((nI n) - 1)]) (rest := []) (fun w => w) hxR hbR hmlR hts hown hK hA hl.1 isCtx.id hI (c5_number l E ad kp tr (va_up (va_up (va_up (va_up (va_up iv 22 (nI (nx b sz (nx b sz (nx b sz a))))) 23 (nI (kd b sz (nx b sz (nx b sz a))))) 24 (nI (fr b sz (nx b sz (nx b sz a))))) 25 (nI (fg b sz (nx b sz (nx b sz a))))) 26 (iv 26)) (va_up ia 27 (va_up (ia 27) 0 (nI (fg b sz (nx b sz a))))) K R mv b sz (nx b sz (nx b sz a)) 1 0 ((nI n) - 1) (up_n (by decide) (up_n (by decide) (up_n (by decide) (up_n (by decide) (up_n (by decide) hsz))))) (by first | omega | with_reducible assumption) (tpOk.of (up_n (by decide) rfl) htp) (up_n (by decide) (up_n (by decide) (up_n (by decide) (up_n (by decide) va_up_s)))) (up_n (by decide) (up_n (by decide) (up_n (by decide) va_up_s))) (up_n (by decide) (up_n (by decide) va_up_s)) (up_n (by decide) va_up_s) (by first | omega | with_reducible assumption) (by first | omega | with_reducible assumption)) (lw_V q1819 q1821 qs57 q86 q1822) ⟨rfl, by decide +kernel⟩ 16 5 rfl rfl mW_o rfl (Nat.le_of_ble_eq_true rfl) (Nat.le_of_ble_eq_true rfl) ⟨Nat.le_of_ble_eq_true rfl, Nat.le_of_ble_eq_true rfl⟩ (Nat.le_of_ble_eq_true rfl) dX5_twoTold_51 (fun r_51 u H locs hp hI hz => ?_)
      obtain ⟨c22_51, c23_51, c24_51, c25_51, c26_51, g27_51⟩ := u
      have hI : wI E AR sR H locs (mW E ad kp tr (va_up (va_up (va_up (va_up (va_up (va_up (va_up (va_up (va_up (va_up iv 22 (nI (nx b sz (nx b sz (nx b sz a))))) 23 (nI (kd b sz (nx b sz (nx b sz a))))) 24 (nI (fr b sz (nx b sz (nx b sz a))))) 25 (nI (fg b sz (nx b sz (nx b sz a))))) 26 (iv 26)) 22 c22_51) 23 c23_51) 24 c24_51) 25 c25_51) 26 c26_51) (va_up (va_up ia 27 (va_up (ia 27) 0 (nI (fg b sz (nx b sz a))))) 27 g27_51) K R mv) := hI
      have hI := wI_w (ws' := mW E ad kp tr (va_up (va_up (va_up (va_up (va_up iv 22 c22_51) 23 c23_51) 24 c24_51) 25 c25_51) 26 c26_51) (va_up ia 27 g27_51) K R mv) (by rw [(show (va_up (va_up (va_up (va_up (va_up iv 22 c22_51) 23 c23_51) 24 c24_51) 25 c25_51) 26 c26_51) = (va_up (va_up (va_up (va_up (va_up (va_up (va_up (va_up (va_up (va_up iv 22 (nI (nx b sz (nx b sz (nx b sz a))))) 23 (nI (kd b sz (nx b sz (nx b sz a))))) 24 (nI (fr b sz (nx b sz (nx b sz a))))) 25 (nI (fg b sz (nx b sz (nx b sz a))))) 26 (iv 26)) 22 c22_51) 23 c23_51) 24 c24_51) 25 c25_51) 26 c26_51) from ((Eq.trans (congrArg (fun z => va_up z 26 c26_51) (Eq.trans (congrArg (fun z => va_up z 25 c25_51) (Eq.trans (congrArg (fun z => va_up z 24 c24_51) (Eq.trans (congrArg (fun z => va_up z 23 c23_51) (up_s (by decide) (up_s (by decide) (up_s (by decide) (up_s (by decide) up_0))))) (up_s (by decide) (up_s (by decide) (up_s (by decide) up_0))))) (up_s (by decide) (up_s (by decide) up_0)))) (up_s (by decide) up_0))) up_0)).symm), (show (va_up ia 27 g27_51) = (va_up (va_up ia 27 (va_up (ia 27) 0 (nI (fg b sz (nx b sz a))))) 27 g27_51) from (up_0).symm)]) hI
      have hI : wI E AR sR H locs (mW E ad kp tr (va_up (va_up (va_up (va_up (va_up iv 22 c22_51) 23 c23_51) 24 c24_51) 25 c25_51) 26 c26_51) (va_up ia 27 g27_51) K R mv) := hI
      have hp : (r_51 = 1 ∧ numE b sz (nx b sz (nx b sz a)) (Int32.toInt 0) (Int32.toInt ((nI n) - 1)) = .ok (fg b sz (nx b sz (nx b sz a)), nx b sz (nx b sz (nx b sz a))) ∧ nI (nx b sz (nx b sz (nx b sz (nx b sz a)))) = c22_51 ∧ nI (kd b sz (nx b sz (nx b sz (nx b sz a)))) = c23_51 ∧ nI (fr b sz (nx b sz (nx b sz (nx b sz a)))) = c24_51 ∧ nI (fg b sz (nx b sz (nx b sz (nx b sz a)))) = c25_51 ∧ (iv 26) = c26_51 ∧ va_up ((va_up (ia 27) 0 (nI (fg b sz (nx b sz a))))) 1 (nI (fg b sz (nx b sz (nx b sz a)))) = g27_51) ∨ (r_51 = 0 ∧ numE b sz (nx b sz (nx b sz a)) (Int32.toInt 0) (Int32.toInt ((nI n) - 1)) = .error (fr b sz (nx b sz (nx b sz a))) ∧ nI (fr b sz (nx b sz (nx b sz a))) = c26_51) := hp
      have h2_51 := hp
      rcases h2_51 with ⟨rfl, f0_51, rfl, rfl, rfl, rfl, rfl, rfl⟩ | ⟨rfl, f0_51, rfl⟩
      · skip
        have f0_51 : numE b sz (nx b sz (nx b sz a)) 0 (Int32.toInt ((nI n) - 1)) = .ok (fg b sz (nx b sz (nx b sz a)), nx b sz (nx b sz (nx b sz a))) := f0_51
        have hI : wI E AR sR H locs (mW E ad kp tr (va_up (va_up (va_up (va_up (va_up iv 22 (nI (nx b sz (nx b sz (nx b sz (nx b sz a)))))) 23 (nI (kd b sz (nx b sz (nx b sz (nx b sz a)))))) 24 (nI (fr b sz (nx b sz (nx b sz (nx b sz a)))))) 25 (nI (fg b sz (nx b sz (nx b sz (nx b sz a)))))) 26 (iv 26)) (va_up ia 27 (va_up ((va_up (ia 27) 0 (nI (fg b sz (nx b sz a))))) 1 (nI (fg b sz (nx b sz (nx b sz a)))))) K R mv) := hI
        rw [hN1] at f0_51
        have hx5 := numE_ok f0_51
        have hI : wI E AR sR H locs (mW E ad kp tr (va_up (va_up (va_up (va_up (va_up iv 22 (nI (nx b sz (nx b sz (nx b sz (nx b sz a)))))) 23 (nI (kd b sz (nx b sz (nx b sz (nx b sz a)))))) 24 (nI (fr b sz (nx b sz (nx b sz (nx b sz a)))))) 25 (nI (fg b sz (nx b sz (nx b sz (nx b sz a)))))) 26 (iv 26)) (va_up ia 27 (va_up ((va_up (ia 27) 0 (nI (fg b sz (nx b sz a))))) 1 (nI (fg b sz (nx b sz (nx b sz a)))))) K R mv) := hI
        exact hret (nI (nx b sz (nx b sz (nx b sz (nx b sz a)))), nI (kd b sz (nx b sz (nx b sz (nx b sz a)))), nI (fr b sz (nx b sz (nx b sz (nx b sz a)))), nI (fg b sz (nx b sz (nx b sz (nx b sz a)))), (iv 26), (va_up ((va_up (ia 27) 0 (nI (fg b sz (nx b sz a))))) 1 (nI (fg b sz (nx b sz (nx b sz a)))))) 1 _ _ 0 0 _ _ dX5_twoTold_54 hI (by show (∃ x_e : Nat, ∃ y_e : Nat, ∃ p_e : Nat, 1 = 1 ∧ twoE b sz n a = .ok (x_e, y_e, p_e) ∧ p_e ≤ sz ∧ (x_e < n ∧ y_e < n) ∧ nI (nx b sz p_e) = (nI (nx b sz (nx b sz (nx b sz (nx b sz a))))) ∧ nI (kd b sz p_e) = (nI (kd b sz (nx b sz (nx b sz (nx b sz a))))) ∧ nI (fr b sz p_e) = (nI (fr b sz (nx b sz (nx b sz (nx b sz a))))) ∧ nI (fg b sz p_e) = (nI (fg b sz (nx b sz (nx b sz (nx b sz a))))) ∧ va_up (va_up (ia 27) 0 (nI x_e)) 1 (nI y_e) = (va_up ((va_up (ia 27) 0 (nI (fg b sz (nx b sz a))))) 1 (nI (fg b sz (nx b sz (nx b sz a)))))) ∨ (∃ f_e : Nat, 1 = 0 ∧ twoE b sz n a = .error f_e ∧ nI (f_e) = (iv 26)); exact Or.inl ⟨_, _, _, rfl, twoE_4 f0_8 (fun z => c_21 z.1) f0_51, hn3, ⟨by omega, by omega⟩, rfl, rfl, rfl, rfl, rfl⟩) (Nat.le_of_ble_eq_true rfl) (Nat.le_of_ble_eq_true rfl) rfl
      · skip
        have f0_51 : numE b sz (nx b sz (nx b sz a)) 0 (Int32.toInt ((nI n) - 1)) = .error (fr b sz (nx b sz (nx b sz a))) := f0_51
        have hI : wI E AR sR H locs (mW E ad kp tr (va_up (va_up (va_up (va_up (va_up iv 22 c22_51) 23 c23_51) 24 c24_51) 25 c25_51) 26 (nI (fr b sz (nx b sz (nx b sz a))))) (va_up ia 27 g27_51) K R mv) := hI
        rw [hN1] at f0_51
        have hI : wI E AR sR H locs (mW E ad kp tr (va_up (va_up (va_up (va_up (va_up iv 22 c22_51) 23 c23_51) 24 c24_51) 25 c25_51) 26 (nI (fr b sz (nx b sz (nx b sz a))))) (va_up ia 27 g27_51) K R mv) := hI
        exact hret (c22_51, c23_51, c24_51, c25_51, nI (fr b sz (nx b sz (nx b sz a))), g27_51) 0 _ _ 0 0 _ _ dX5_twoTold_54 hI (by show (∃ x_e : Nat, ∃ y_e : Nat, ∃ p_e : Nat, 0 = 1 ∧ twoE b sz n a = .ok (x_e, y_e, p_e) ∧ p_e ≤ sz ∧ (x_e < n ∧ y_e < n) ∧ nI (nx b sz p_e) = c22_51 ∧ nI (kd b sz p_e) = c23_51 ∧ nI (fr b sz p_e) = c24_51 ∧ nI (fg b sz p_e) = c25_51 ∧ va_up (va_up (ia 27) 0 (nI x_e)) 1 (nI y_e) = g27_51) ∨ (∃ f_e : Nat, 0 = 0 ∧ twoE b sz n a = .error f_e ∧ nI (f_e) = (nI (fr b sz (nx b sz (nx b sz a))))); exact Or.inr ⟨_, rfl, twoE_3 f0_8 (fun z => c_21 z.1) f0_51, rfl⟩) (Nat.le_of_ble_eq_true rfl) (Nat.le_of_ble_eq_true rfl) rfl
    · skip
      have c_21 : (kd b sz (nx b sz (nx b sz a))) = 2 := (n_eq (a := (kd b sz (nx b sz (nx b sz a)))) (b := 2) (by omega) (by omega)).mp c_21
      refine lv_aload_n hxR hbR dX5_twoTold_24 rfl (lv_at hl 0 rfl) ?_
      refine r_get hxR hbR hts hown hK hI okX5 (ci := 5) rfl 16 mW_o 25 (by decide) q1503 rfl (v := .int (nI (fg b sz (nx b sz (nx b sz a))))) (al (up_n (by decide) va_up_s)) dX5_twoTold_25 ?_
      refine lv_aload_n hxR hbR dX5_twoTold_28 rfl (lv_at hl 0 rfl) ?_
      refine r_get hxR hbR hts hown hK hI okX5 (ci := 5) rfl 16 mW_o 27 (by decide) q1505 rfl (v := .ref (ad 27)) rfl dX5_twoTold_29 ?_
      refine lv_iconst (v := 0) hxR hbR dX5_twoTold_32 (by decide) ?_
      refine r_iald hxR hbR hK hI 29 (n := 2) (J := 0) (f := (va_up (ia 27) 0 (nI (fg b sz (nx b sz a))))) (v := nI (fg b sz (nx b sz a))) (mW_g27 va_up_s) (by omega) (by decide) va_up_s dX5_twoTold_33 ?_
      refine lv_icmp_ne (tgt := 42) hxR hbR dX5_twoTold_34 (by decide) (fun c_34 => ?_) (fun c_34 => ?_)
      · skip
        have c_34 : ¬ (fg b sz (nx b sz (nx b sz a))) = (fg b sz (nx b sz a)) := fun zz => c_34 ((n_eq (a := (fg b sz (nx b sz (nx b sz a)))) (b := (fg b sz (nx b sz a))) (by omega) (by omega)).mpr zz)
        refine lv_aload_n hxR hbR dX5_twoTold_42 rfl (lv_at hl 0 rfl) ?_
        refine lv_iconst (v := 1) hxR hbR dX5_twoTold_43 (by decide) ?_
        refine lv_iconst (v := 0) hxR hbR dX5_twoTold_44 (by decide) ?_
        refine lv_aload_n hxR hbR dX5_twoTold_45 rfl (lv_at hl 0 rfl) ?_
        refine r_get hxR hbR hts hown hK hI okX5 (ci := 5) rfl 16 mW_o 10 (by decide) q1488 rfl (v := .int (nI n)) (al (up_n (by decide) (up_n (by decide) (up_n (by decide) (up_n (by decide) (up_n (by decide) hn)))))) dX5_twoTold_46 ?_
        refine lv_iconst (v := 1) hxR hbR dX5_twoTold_49 (by decide) ?_
        refine lv_isub hxR hbR dX5_twoTold_50 ?_
        refine kVI (n := 3) (As := [.int 1, .int 0, .int ((nI n) - 1)]) (rest := []) (fun w => w) hxR hbR hmlR hts hown hK hA hl.1 isCtx.id hI (c5_number l E ad kp tr (va_up (va_up (va_up (va_up (va_up iv 22 (nI (nx b sz (nx b sz (nx b sz a))))) 23 (nI (kd b sz (nx b sz (nx b sz a))))) 24 (nI (fr b sz (nx b sz (nx b sz a))))) 25 (nI (fg b sz (nx b sz (nx b sz a))))) 26 (iv 26)) (va_up ia 27 (va_up (ia 27) 0 (nI (fg b sz (nx b sz a))))) K R mv b sz (nx b sz (nx b sz a)) 1 0 ((nI n) - 1) (up_n (by decide) (up_n (by decide) (up_n (by decide) (up_n (by decide) (up_n (by decide) hsz))))) (by first | omega | with_reducible assumption) (tpOk.of (up_n (by decide) rfl) htp) (up_n (by decide) (up_n (by decide) (up_n (by decide) (up_n (by decide) va_up_s)))) (up_n (by decide) (up_n (by decide) (up_n (by decide) va_up_s))) (up_n (by decide) (up_n (by decide) va_up_s)) (up_n (by decide) va_up_s) (by first | omega | with_reducible assumption) (by first | omega | with_reducible assumption)) (lw_V q1819 q1821 qs57 q86 q1822) ⟨rfl, by decide +kernel⟩ 16 5 rfl rfl mW_o rfl (Nat.le_of_ble_eq_true rfl) (Nat.le_of_ble_eq_true rfl) ⟨Nat.le_of_ble_eq_true rfl, Nat.le_of_ble_eq_true rfl⟩ (Nat.le_of_ble_eq_true rfl) dX5_twoTold_51 (fun r_51 u H locs hp hI hz => ?_)
        obtain ⟨c22_51, c23_51, c24_51, c25_51, c26_51, g27_51⟩ := u
        have hI : wI E AR sR H locs (mW E ad kp tr (va_up (va_up (va_up (va_up (va_up (va_up (va_up (va_up (va_up (va_up iv 22 (nI (nx b sz (nx b sz (nx b sz a))))) 23 (nI (kd b sz (nx b sz (nx b sz a))))) 24 (nI (fr b sz (nx b sz (nx b sz a))))) 25 (nI (fg b sz (nx b sz (nx b sz a))))) 26 (iv 26)) 22 c22_51) 23 c23_51) 24 c24_51) 25 c25_51) 26 c26_51) (va_up (va_up ia 27 (va_up (ia 27) 0 (nI (fg b sz (nx b sz a))))) 27 g27_51) K R mv) := hI
        have hI := wI_w (ws' := mW E ad kp tr (va_up (va_up (va_up (va_up (va_up iv 22 c22_51) 23 c23_51) 24 c24_51) 25 c25_51) 26 c26_51) (va_up ia 27 g27_51) K R mv) (by rw [(show (va_up (va_up (va_up (va_up (va_up iv 22 c22_51) 23 c23_51) 24 c24_51) 25 c25_51) 26 c26_51) = (va_up (va_up (va_up (va_up (va_up (va_up (va_up (va_up (va_up (va_up iv 22 (nI (nx b sz (nx b sz (nx b sz a))))) 23 (nI (kd b sz (nx b sz (nx b sz a))))) 24 (nI (fr b sz (nx b sz (nx b sz a))))) 25 (nI (fg b sz (nx b sz (nx b sz a))))) 26 (iv 26)) 22 c22_51) 23 c23_51) 24 c24_51) 25 c25_51) 26 c26_51) from ((Eq.trans (congrArg (fun z => va_up z 26 c26_51) (Eq.trans (congrArg (fun z => va_up z 25 c25_51) (Eq.trans (congrArg (fun z => va_up z 24 c24_51) (Eq.trans (congrArg (fun z => va_up z 23 c23_51) (up_s (by decide) (up_s (by decide) (up_s (by decide) (up_s (by decide) up_0))))) (up_s (by decide) (up_s (by decide) (up_s (by decide) up_0))))) (up_s (by decide) (up_s (by decide) up_0)))) (up_s (by decide) up_0))) up_0)).symm), (show (va_up ia 27 g27_51) = (va_up (va_up ia 27 (va_up (ia 27) 0 (nI (fg b sz (nx b sz a))))) 27 g27_51) from (up_0).symm)]) hI
        have hI : wI E AR sR H locs (mW E ad kp tr (va_up (va_up (va_up (va_up (va_up iv 22 c22_51) 23 c23_51) 24 c24_51) 25 c25_51) 26 c26_51) (va_up ia 27 g27_51) K R mv) := hI
        have hp : (r_51 = 1 ∧ numE b sz (nx b sz (nx b sz a)) (Int32.toInt 0) (Int32.toInt ((nI n) - 1)) = .ok (fg b sz (nx b sz (nx b sz a)), nx b sz (nx b sz (nx b sz a))) ∧ nI (nx b sz (nx b sz (nx b sz (nx b sz a)))) = c22_51 ∧ nI (kd b sz (nx b sz (nx b sz (nx b sz a)))) = c23_51 ∧ nI (fr b sz (nx b sz (nx b sz (nx b sz a)))) = c24_51 ∧ nI (fg b sz (nx b sz (nx b sz (nx b sz a)))) = c25_51 ∧ (iv 26) = c26_51 ∧ va_up ((va_up (ia 27) 0 (nI (fg b sz (nx b sz a))))) 1 (nI (fg b sz (nx b sz (nx b sz a)))) = g27_51) ∨ (r_51 = 0 ∧ numE b sz (nx b sz (nx b sz a)) (Int32.toInt 0) (Int32.toInt ((nI n) - 1)) = .error (fr b sz (nx b sz (nx b sz a))) ∧ nI (fr b sz (nx b sz (nx b sz a))) = c26_51) := hp
        have h2_51 := hp
        rcases h2_51 with ⟨rfl, f0_51, rfl, rfl, rfl, rfl, rfl, rfl⟩ | ⟨rfl, f0_51, rfl⟩
        · skip
          have f0_51 : numE b sz (nx b sz (nx b sz a)) 0 (Int32.toInt ((nI n) - 1)) = .ok (fg b sz (nx b sz (nx b sz a)), nx b sz (nx b sz (nx b sz a))) := f0_51
          have hI : wI E AR sR H locs (mW E ad kp tr (va_up (va_up (va_up (va_up (va_up iv 22 (nI (nx b sz (nx b sz (nx b sz (nx b sz a)))))) 23 (nI (kd b sz (nx b sz (nx b sz (nx b sz a)))))) 24 (nI (fr b sz (nx b sz (nx b sz (nx b sz a)))))) 25 (nI (fg b sz (nx b sz (nx b sz (nx b sz a)))))) 26 (iv 26)) (va_up ia 27 (va_up ((va_up (ia 27) 0 (nI (fg b sz (nx b sz a))))) 1 (nI (fg b sz (nx b sz (nx b sz a)))))) K R mv) := hI
          rw [hN1] at f0_51
          have hx5 := numE_ok f0_51
          have hI : wI E AR sR H locs (mW E ad kp tr (va_up (va_up (va_up (va_up (va_up iv 22 (nI (nx b sz (nx b sz (nx b sz (nx b sz a)))))) 23 (nI (kd b sz (nx b sz (nx b sz (nx b sz a)))))) 24 (nI (fr b sz (nx b sz (nx b sz (nx b sz a)))))) 25 (nI (fg b sz (nx b sz (nx b sz (nx b sz a)))))) 26 (iv 26)) (va_up ia 27 (va_up ((va_up (ia 27) 0 (nI (fg b sz (nx b sz a))))) 1 (nI (fg b sz (nx b sz (nx b sz a)))))) K R mv) := hI
          exact hret (nI (nx b sz (nx b sz (nx b sz (nx b sz a)))), nI (kd b sz (nx b sz (nx b sz (nx b sz a)))), nI (fr b sz (nx b sz (nx b sz (nx b sz a)))), nI (fg b sz (nx b sz (nx b sz (nx b sz a)))), (iv 26), (va_up ((va_up (ia 27) 0 (nI (fg b sz (nx b sz a))))) 1 (nI (fg b sz (nx b sz (nx b sz a)))))) 1 _ _ 0 0 _ _ dX5_twoTold_54 hI (by show (∃ x_e : Nat, ∃ y_e : Nat, ∃ p_e : Nat, 1 = 1 ∧ twoE b sz n a = .ok (x_e, y_e, p_e) ∧ p_e ≤ sz ∧ (x_e < n ∧ y_e < n) ∧ nI (nx b sz p_e) = (nI (nx b sz (nx b sz (nx b sz (nx b sz a))))) ∧ nI (kd b sz p_e) = (nI (kd b sz (nx b sz (nx b sz (nx b sz a))))) ∧ nI (fr b sz p_e) = (nI (fr b sz (nx b sz (nx b sz (nx b sz a))))) ∧ nI (fg b sz p_e) = (nI (fg b sz (nx b sz (nx b sz (nx b sz a))))) ∧ va_up (va_up (ia 27) 0 (nI x_e)) 1 (nI y_e) = (va_up ((va_up (ia 27) 0 (nI (fg b sz (nx b sz a))))) 1 (nI (fg b sz (nx b sz (nx b sz a)))))) ∨ (∃ f_e : Nat, 1 = 0 ∧ twoE b sz n a = .error f_e ∧ nI (f_e) = (iv 26)); exact Or.inl ⟨_, _, _, rfl, twoE_4 f0_8 (fun z => c_34 z.2) f0_51, hn3, ⟨by omega, by omega⟩, rfl, rfl, rfl, rfl, rfl⟩) (Nat.le_of_ble_eq_true rfl) (Nat.le_of_ble_eq_true rfl) rfl
        · skip
          have f0_51 : numE b sz (nx b sz (nx b sz a)) 0 (Int32.toInt ((nI n) - 1)) = .error (fr b sz (nx b sz (nx b sz a))) := f0_51
          have hI : wI E AR sR H locs (mW E ad kp tr (va_up (va_up (va_up (va_up (va_up iv 22 c22_51) 23 c23_51) 24 c24_51) 25 c25_51) 26 (nI (fr b sz (nx b sz (nx b sz a))))) (va_up ia 27 g27_51) K R mv) := hI
          rw [hN1] at f0_51
          have hI : wI E AR sR H locs (mW E ad kp tr (va_up (va_up (va_up (va_up (va_up iv 22 c22_51) 23 c23_51) 24 c24_51) 25 c25_51) 26 (nI (fr b sz (nx b sz (nx b sz a))))) (va_up ia 27 g27_51) K R mv) := hI
          exact hret (c22_51, c23_51, c24_51, c25_51, nI (fr b sz (nx b sz (nx b sz a))), g27_51) 0 _ _ 0 0 _ _ dX5_twoTold_54 hI (by show (∃ x_e : Nat, ∃ y_e : Nat, ∃ p_e : Nat, 0 = 1 ∧ twoE b sz n a = .ok (x_e, y_e, p_e) ∧ p_e ≤ sz ∧ (x_e < n ∧ y_e < n) ∧ nI (nx b sz p_e) = c22_51 ∧ nI (kd b sz p_e) = c23_51 ∧ nI (fr b sz p_e) = c24_51 ∧ nI (fg b sz p_e) = c25_51 ∧ va_up (va_up (ia 27) 0 (nI x_e)) 1 (nI y_e) = g27_51) ∨ (∃ f_e : Nat, 0 = 0 ∧ twoE b sz n a = .error f_e ∧ nI (f_e) = (nI (fr b sz (nx b sz (nx b sz a))))); exact Or.inr ⟨_, rfl, twoE_3 f0_8 (fun z => c_34 z.2) f0_51, rfl⟩) (Nat.le_of_ble_eq_true rfl) (Nat.le_of_ble_eq_true rfl) rfl
      · skip
        have c_34 : (fg b sz (nx b sz (nx b sz a))) = (fg b sz (nx b sz a)) := (n_eq (a := (fg b sz (nx b sz (nx b sz a)))) (b := (fg b sz (nx b sz a))) (by omega) (by omega)).mp c_34
        refine lv_aload_n hxR hbR dX5_twoTold_37 rfl (lv_at hl 0 rfl) ?_
        refine kVI (n := 0) (As := []) (rest := []) (fun w => w) hxR hbR hmlR hts hown hK hA hl.1 isCtx.id hI (c5_wrong l E ad kp tr (va_up (va_up (va_up (va_up (va_up iv 22 (nI (nx b sz (nx b sz (nx b sz a))))) 23 (nI (kd b sz (nx b sz (nx b sz a))))) 24 (nI (fr b sz (nx b sz (nx b sz a))))) 25 (nI (fg b sz (nx b sz (nx b sz a))))) 26 (iv 26)) (va_up ia 27 (va_up (ia 27) 0 (nI (fg b sz (nx b sz a))))) K R mv  ) (lw_V q1823 q1825 qs58 q86 q1826) ⟨rfl, by decide +kernel⟩ 16 5 rfl rfl mW_o rfl (Nat.le_of_ble_eq_true rfl) (Nat.le_of_ble_eq_true rfl) ⟨Nat.le_of_ble_eq_true rfl, Nat.le_of_ble_eq_true rfl⟩ (Nat.le_of_ble_eq_true rfl) dX5_twoTold_38 (fun r_38 u H locs hp hI hz => ?_)
        have hI : wI E AR sR H locs (mW E ad kp tr (va_up (va_up (va_up (va_up (va_up (va_up iv 22 (nI (nx b sz (nx b sz (nx b sz a))))) 23 (nI (kd b sz (nx b sz (nx b sz a))))) 24 (nI (fr b sz (nx b sz (nx b sz a))))) 25 (nI (fg b sz (nx b sz (nx b sz a))))) 26 (iv 26)) 26 (nI (fr b sz (nx b sz (nx b sz a))))) (va_up ia 27 (va_up (ia 27) 0 (nI (fg b sz (nx b sz a))))) K R mv) := hI
        have hI := wI_w (ws' := mW E ad kp tr (va_up (va_up (va_up (va_up (va_up iv 22 (nI (nx b sz (nx b sz (nx b sz a))))) 23 (nI (kd b sz (nx b sz (nx b sz a))))) 24 (nI (fr b sz (nx b sz (nx b sz a))))) 25 (nI (fg b sz (nx b sz (nx b sz a))))) 26 (nI (fr b sz (nx b sz (nx b sz a))))) (va_up ia 27 (va_up (ia 27) 0 (nI (fg b sz (nx b sz a))))) K R mv) (by rw [(show (va_up (va_up (va_up (va_up (va_up iv 22 (nI (nx b sz (nx b sz (nx b sz a))))) 23 (nI (kd b sz (nx b sz (nx b sz a))))) 24 (nI (fr b sz (nx b sz (nx b sz a))))) 25 (nI (fg b sz (nx b sz (nx b sz a))))) 26 (nI (fr b sz (nx b sz (nx b sz a))))) = (va_up (va_up (va_up (va_up (va_up (va_up iv 22 (nI (nx b sz (nx b sz (nx b sz a))))) 23 (nI (kd b sz (nx b sz (nx b sz a))))) 24 (nI (fr b sz (nx b sz (nx b sz a))))) 25 (nI (fg b sz (nx b sz (nx b sz a))))) 26 (iv 26)) 26 (nI (fr b sz (nx b sz (nx b sz a))))) from (up_0).symm)]) hI
        have hI : wI E AR sR H locs (mW E ad kp tr (va_up (va_up (va_up (va_up (va_up iv 22 (nI (nx b sz (nx b sz (nx b sz a))))) 23 (nI (kd b sz (nx b sz (nx b sz a))))) 24 (nI (fr b sz (nx b sz (nx b sz a))))) 25 (nI (fg b sz (nx b sz (nx b sz a))))) 26 (nI (fr b sz (nx b sz (nx b sz a))))) (va_up ia 27 (va_up (ia 27) 0 (nI (fg b sz (nx b sz a))))) K R mv) := hI
        have hp : r_38 = 0 := hp
        have hr_38 := hp
        subst hr_38
        have hI : wI E AR sR H locs (mW E ad kp tr (va_up (va_up (va_up (va_up (va_up iv 22 (nI (nx b sz (nx b sz (nx b sz a))))) 23 (nI (kd b sz (nx b sz (nx b sz a))))) 24 (nI (fr b sz (nx b sz (nx b sz a))))) 25 (nI (fg b sz (nx b sz (nx b sz a))))) 26 (nI (fr b sz (nx b sz (nx b sz a))))) (va_up ia 27 (va_up (ia 27) 0 (nI (fg b sz (nx b sz a))))) K R mv) := hI
        exact hret (nI (nx b sz (nx b sz (nx b sz a))), nI (kd b sz (nx b sz (nx b sz a))), nI (fr b sz (nx b sz (nx b sz a))), nI (fg b sz (nx b sz (nx b sz a))), (nI (fr b sz (nx b sz (nx b sz a)))), (va_up (ia 27) 0 (nI (fg b sz (nx b sz a))))) 0 _ _ 0 0 _ _ dX5_twoTold_41 hI (by show (∃ x_e : Nat, ∃ y_e : Nat, ∃ p_e : Nat, 0 = 1 ∧ twoE b sz n a = .ok (x_e, y_e, p_e) ∧ p_e ≤ sz ∧ (x_e < n ∧ y_e < n) ∧ nI (nx b sz p_e) = (nI (nx b sz (nx b sz (nx b sz a)))) ∧ nI (kd b sz p_e) = (nI (kd b sz (nx b sz (nx b sz a)))) ∧ nI (fr b sz p_e) = (nI (fr b sz (nx b sz (nx b sz a)))) ∧ nI (fg b sz p_e) = (nI (fg b sz (nx b sz (nx b sz a)))) ∧ va_up (va_up (ia 27) 0 (nI x_e)) 1 (nI y_e) = (va_up (ia 27) 0 (nI (fg b sz (nx b sz a))))) ∨ (∃ f_e : Nat, 0 = 0 ∧ twoE b sz n a = .error f_e ∧ nI (f_e) = (nI (fr b sz (nx b sz (nx b sz a))))); exact Or.inr ⟨_, rfl, twoE_2 f0_8 c_21 c_34, rfl⟩) (Nat.le_of_ble_eq_true rfl) (Nat.le_of_ble_eq_true rfl) rfl
  · skip
    have f0_8 : numE b sz (nx b sz a) 0 (Int32.toInt ((nI n) - 1)) = .error (fr b sz (nx b sz a)) := f0_8
    have hI : wI E AR sR H locs (mW E ad kp tr (va_up (va_up (va_up (va_up (va_up iv 22 c22_8) 23 c23_8) 24 c24_8) 25 c25_8) 26 (nI (fr b sz (nx b sz a)))) (va_up ia 27 g27_8) K R mv) := hI
    rw [hN1] at f0_8
    refine lv_if_ne (tgt := 16) hxR hbR dX5_twoTold_11 (by decide) (fun c => absurd c (by decide)) (fun _ => ?_)
    refine lv_iconst (v := 0) hxR hbR dX5_twoTold_14 (by decide) ?_
    have hI : wI E AR sR H locs (mW E ad kp tr (va_up (va_up (va_up (va_up (va_up iv 22 c22_8) 23 c23_8) 24 c24_8) 25 c25_8) 26 (nI (fr b sz (nx b sz a)))) (va_up ia 27 g27_8) K R mv) := hI
    exact hret (c22_8, c23_8, c24_8, c25_8, nI (fr b sz (nx b sz a)), g27_8) 0 _ _ 0 0 _ _ dX5_twoTold_15 hI (by show (∃ x_e : Nat, ∃ y_e : Nat, ∃ p_e : Nat, 0 = 1 ∧ twoE b sz n a = .ok (x_e, y_e, p_e) ∧ p_e ≤ sz ∧ (x_e < n ∧ y_e < n) ∧ nI (nx b sz p_e) = c22_8 ∧ nI (kd b sz p_e) = c23_8 ∧ nI (fr b sz p_e) = c24_8 ∧ nI (fg b sz p_e) = c25_8 ∧ va_up (va_up (ia 27) 0 (nI x_e)) 1 (nI y_e) = g27_8) ∨ (∃ f_e : Nat, 0 = 0 ∧ twoE b sz n a = .error f_e ∧ nI (f_e) = (nI (fr b sz (nx b sz a)))); exact Or.inr ⟨_, rfl, twoE_1 f0_8, rfl⟩) (Nat.le_of_ble_eq_true rfl) (Nat.le_of_ble_eq_true rfl) rfl

theorem c5_knowTold (l : Launch) (E : En) (ad : Nat → Nat) (kp tr : Option Nat) (iv : Nat → Int32) (ia K : Nat → Nat → Int32) (R : Nat → Nat → Int64) (mv : Nat → Int64) (b : Nat → Nat) (sz : Nat) (a : Nat) (n : Nat) (hsz : iv 8 = nI sz) (hz : sz ≤ 250) (htp : tpOk (ia 7) b sz) (h22 : iv 22 = nI (nx b sz a)) (h23 : iv 23 = nI (kd b sz a)) (h24 : iv 24 = nI (fr b sz a)) (h25 : iv 25 = nI (fg b sz a)) (ha : a ≤ sz) (hn : iv 10 = nI n) (hn7 : n ≤ 7) : CtI l E yX5_knowTold cX5_knowTold 4 .boolean 10 0 0 [.ref (ad 45)] (mW E ad kp tr iv ia K R mv) (fun (r : Int32) (u : Int32 × Int32 × Int32 × Int32 × Int32 × (Nat → Int32) × (Nat → Nat → Int32)) => (∃ K9_e : Nat → Nat → Int32, ∃ p_e : Nat, r = 1 ∧ knoE b sz n K a = .ok (K9_e, p_e) ∧ p_e ≤ sz ∧ nI (nx b sz p_e) = u.1 ∧ nI (kd b sz p_e) = u.2.1 ∧ nI (fr b sz p_e) = u.2.2.1 ∧ nI (fg b sz p_e) = u.2.2.2.1 ∧ K9_e = u.2.2.2.2.2.2) ∨ (∃ f_e : Nat, r = 0 ∧ knoE b sz n K a = .error f_e ∧ nI (f_e) = u.2.2.2.2.1)) (fun (u : Int32 × Int32 × Int32 × Int32 × Int32 × (Nat → Int32) × (Nat → Nat → Int32)) => mW E ad kp tr (va_up (va_up (va_up (va_up (va_up iv 22 u.1) 23 u.2.1) 24 u.2.2.1) 25 u.2.2.2.1) 26 u.2.2.2.2.1) (va_up ia 27 u.2.2.2.2.2.1) u.2.2.2.2.2.2 R mv) := by
  have hfa := fr_le (b := b) ha
  have hna := nx_le (b := b) ha
  have hfn := nx_ge (b := b) (sz := sz) (a := a)
  have hka := kd_lt (b := b) (sz := sz) (a := a)
  have hga := fg_le htp.lt ha
  refine CtI.of (by decide +kernel) (Nat.le_of_ble_eq_true rfl) ?_
  intro pR eR sR mR aR bR tR cR AR ls QR hxR hbR hmlR hts hown hlk hnm hA hK hI hl hret
  have hl : lv_has ls 4 [(0, .ref (ad 45))] := hl
  refine lv_aload_n hxR hbR dX5_knowTold_0 rfl (lv_at hl 0 rfl) ?_
  refine kVI (n := 0) (As := []) (rest := []) (fun w => w) hxR hbR hmlR hts hown hK hA hl.1 isCtx.id hI (c5_twoTold l E ad kp tr iv ia K R mv b sz a n hsz (by first | omega | with_reducible assumption) (tpOk.of rfl htp) h22 h23 h24 h25 (by first | omega | with_reducible assumption) hn (by first | omega | with_reducible assumption)) (lw_V q1832 q1834 qs60 q86 q1835) ⟨rfl, by decide +kernel⟩ 16 5 rfl rfl mW_o rfl (Nat.le_of_ble_eq_true rfl) (Nat.le_of_ble_eq_true rfl) ⟨Nat.le_of_ble_eq_true rfl, Nat.le_of_ble_eq_true rfl⟩ (Nat.le_of_ble_eq_true rfl) dX5_knowTold_1 (fun r_1 u H locs hp hI hz => ?_)
  obtain ⟨c22_1, c23_1, c24_1, c25_1, c26_1, g27_1⟩ := u
  have hI : wI E AR sR H locs (mW E ad kp tr (va_up (va_up (va_up (va_up (va_up iv 22 c22_1) 23 c23_1) 24 c24_1) 25 c25_1) 26 c26_1) (va_up ia 27 g27_1) K R mv) := hI
  have hp : (∃ x_e : Nat, ∃ y_e : Nat, ∃ p_e : Nat, r_1 = 1 ∧ twoE b sz n a = .ok (x_e, y_e, p_e) ∧ p_e ≤ sz ∧ (x_e < n ∧ y_e < n) ∧ nI (nx b sz p_e) = c22_1 ∧ nI (kd b sz p_e) = c23_1 ∧ nI (fr b sz p_e) = c24_1 ∧ nI (fg b sz p_e) = c25_1 ∧ va_up (va_up (ia 27) 0 (nI x_e)) 1 (nI y_e) = g27_1) ∨ (∃ f_e : Nat, r_1 = 0 ∧ twoE b sz n a = .error f_e ∧ nI (f_e) = c26_1) := hp
  have h2_1 := hp
  rcases h2_1 with ⟨x_1, y_1, p_1, rfl, f0_1, f1_1, f2_1, rfl, rfl, rfl, rfl, rfl⟩ | ⟨f_1, rfl, f0_1, rfl⟩
  · skip
    have f0_1 : twoE b sz n a = .ok (x_1, y_1, p_1) := f0_1
    have f1_1 : p_1 ≤ sz := f1_1
    have f2_1 : x_1 < n ∧ y_1 < n := f2_1
    have hI : wI E AR sR H locs (mW E ad kp tr (va_up (va_up (va_up (va_up (va_up iv 22 (nI (nx b sz p_1))) 23 (nI (kd b sz p_1))) 24 (nI (fr b sz p_1))) 25 (nI (fg b sz p_1))) 26 c26_1) (va_up ia 27 (va_up (va_up (ia 27) 0 (nI x_1)) 1 (nI y_1))) K R mv) := hI
    obtain ⟨hxn, hyn⟩ := f2_1
    have hna1 := nx_le (b := b) f1_1
    have hna2 := nx_le (b := b) hna1
    have hga1 := fg_le htp.lt hna1
    refine lv_if_ne (tgt := 9) hxR hbR dX5_knowTold_4 (by decide) (fun _ => ?_) (fun c => absurd c (by decide))
    refine lv_aload_n hxR hbR dX5_knowTold_9 rfl (lv_at hl 0 rfl) ?_
    refine r_get hxR hbR hts hown hK hI okX5 (ci := 5) rfl 16 mW_o 27 (by decide) q1505 rfl (v := .ref (ad 27)) rfl dX5_knowTold_10 ?_
    refine lv_iconst (v := 0) hxR hbR dX5_knowTold_13 (by decide) ?_
    refine r_iald hxR hbR hK hI 29 (n := 2) (J := 0) (f := (va_up (va_up (ia 27) 0 (nI x_1)) 1 (nI y_1))) (v := nI x_1) (mW_g27 va_up_s) (by omega) (by decide) (up_n (by decide) va_up_s) dX5_knowTold_14 ?_
    refine lv_istore_n (lv' := [(1, .int (nI x_1)), (0, .ref (ad 45))]) hxR hbR dX5_knowTold_15 rfl hl (by decide) rfl (fun ls hl => ?_)
    refine lv_aload_n hxR hbR dX5_knowTold_16 rfl (lv_at hl 1 rfl) ?_
    refine r_get hxR hbR hts hown hK hI okX5 (ci := 5) rfl 16 mW_o 27 (by decide) q1505 rfl (v := .ref (ad 27)) rfl dX5_knowTold_17 ?_
    refine lv_iconst (v := 1) hxR hbR dX5_knowTold_20 (by decide) ?_
    refine r_iald hxR hbR hK hI 29 (n := 2) (J := 1) (f := (va_up (va_up (ia 27) 0 (nI x_1)) 1 (nI y_1))) (v := nI y_1) (mW_g27 va_up_s) (by omega) (by decide) va_up_s dX5_knowTold_21 ?_
    refine lv_istore_n (lv' := [(2, .int (nI y_1)), (1, .int (nI x_1)), (0, .ref (ad 45))]) hxR hbR dX5_knowTold_22 rfl hl (by decide) rfl (fun ls hl => ?_)
    refine lv_iconst (v := 0) hxR hbR dX5_knowTold_23 (by decide) ?_
    refine lv_istore_n (lv' := [(3, .int 0), (2, .int (nI y_1)), (1, .int (nI x_1)), (0, .ref (ad 45))]) hxR hbR dX5_knowTold_24 rfl hl (by decide) rfl (fun ls hl => ?_)
    refine lv_aload_n hxR hbR dX5_knowTold_25 rfl (lv_at hl 3 rfl) ?_
    refine va_ldcS hxR hbR hown (hK.2.2.2.1 ("ThreeStrangersModel", 207, "since", 7) (by decide)) dX5_knowTold_26 ?_
    refine kVI (n := 1) (As := [.ref (E.1.2.1 7)]) (rest := []) (fun w => w) hxR hbR hmlR hts hown hK hA hl.1 isCtx.id hI (c5_isWord l E ad kp tr (va_up (va_up (va_up (va_up (va_up iv 22 (nI (nx b sz p_1))) 23 (nI (kd b sz p_1))) 24 (nI (fr b sz p_1))) 25 (nI (fg b sz p_1))) 26 c26_1) (va_up ia 27 (va_up (va_up (ia 27) 0 (nI x_1)) 1 (nI y_1))) K R mv b sz p_1 7 (up_n (by decide) (up_n (by decide) (up_n (by decide) (up_n (by decide) (up_n (by decide) hsz))))) (by first | omega | with_reducible assumption) (tpOk.of (up_n (by decide) rfl) htp) (up_n (by decide) (up_n (by decide) (up_n (by decide) (up_n (by decide) va_up_s)))) (up_n (by decide) (up_n (by decide) (up_n (by decide) va_up_s))) (up_n (by decide) (up_n (by decide) va_up_s)) (up_n (by decide) va_up_s) (by first | omega | with_reducible assumption) (by first | omega | with_reducible assumption)) (lw_V q1792 q1794 qs55 q86 q1795) ⟨rfl, by decide +kernel⟩ 16 5 rfl rfl mW_o rfl (Nat.le_of_ble_eq_true rfl) (Nat.le_of_ble_eq_true rfl) ⟨Nat.le_of_ble_eq_true rfl, Nat.le_of_ble_eq_true rfl⟩ (Nat.le_of_ble_eq_true rfl) dX5_knowTold_28 (fun r_28 u H locs hp hI hz => ?_)
    have hI : wI E AR sR H locs (mW E ad kp tr (va_up (va_up (va_up (va_up (va_up iv 22 (nI (nx b sz p_1))) 23 (nI (kd b sz p_1))) 24 (nI (fr b sz p_1))) 25 (nI (fg b sz p_1))) 26 c26_1) (va_up ia 27 (va_up (va_up (ia 27) 0 (nI x_1)) 1 (nI y_1))) K R mv) := hI
    have hp : r_28 = b2i (isW b sz p_1 7) := hp
    have hr_28 := hp
    rcases b2i_cases hr_28 with ⟨c_28, rfl⟩ | ⟨c_28, rfl⟩
    · skip
      have c_28 : isW b sz p_1 7 = true := c_28
      refine lv_if_eq (tgt := 53) hxR hbR dX5_knowTold_31 (by decide) (fun c => absurd c (by decide)) (fun _ => ?_)
      refine lv_aload_n hxR hbR dX5_knowTold_34 rfl (lv_at hl 3 rfl) ?_
      refine lv_iconst (v := 0) hxR hbR dX5_knowTold_35 (by decide) ?_
      refine lv_bipush (v := 99) hxR hbR dX5_knowTold_36 (by decide) ?_
      refine kVI (n := 2) (As := [.int 0, .int 99]) (rest := []) (fun w => w) hxR hbR hmlR hts hown hK hA hl.1 isCtx.id hI (c5_tells l E ad kp tr (va_up (va_up (va_up (va_up (va_up iv 22 (nI (nx b sz p_1))) 23 (nI (kd b sz p_1))) 24 (nI (fr b sz p_1))) 25 (nI (fg b sz p_1))) 26 c26_1) (va_up ia 27 (va_up (va_up (ia 27) 0 (nI x_1)) 1 (nI y_1))) K R mv b sz p_1 0 99 (up_n (by decide) (up_n (by decide) (up_n (by decide) (up_n (by decide) (up_n (by decide) hsz))))) (by first | omega | with_reducible assumption) (tpOk.of (up_n (by decide) rfl) htp) (up_n (by decide) (up_n (by decide) (up_n (by decide) (up_n (by decide) va_up_s)))) (up_n (by decide) (up_n (by decide) (up_n (by decide) va_up_s))) (up_n (by decide) (up_n (by decide) va_up_s)) (up_n (by decide) va_up_s) (by first | omega | with_reducible assumption)) (lw_V q1815 q1817 qs56 q86 q1818) ⟨rfl, by decide +kernel⟩ 16 5 rfl rfl mW_o rfl (Nat.le_of_ble_eq_true rfl) (Nat.le_of_ble_eq_true rfl) ⟨Nat.le_of_ble_eq_true rfl, Nat.le_of_ble_eq_true rfl⟩ (Nat.le_of_ble_eq_true rfl) dX5_knowTold_38 (fun r_38 u H locs hp hI hz => ?_)
      obtain ⟨c22_38, c23_38, c24_38, c25_38, c26_38, g27_38⟩ := u
      have hI : wI E AR sR H locs (mW E ad kp tr (va_up (va_up (va_up (va_up (va_up (va_up (va_up (va_up (va_up (va_up iv 22 (nI (nx b sz p_1))) 23 (nI (kd b sz p_1))) 24 (nI (fr b sz p_1))) 25 (nI (fg b sz p_1))) 26 c26_1) 22 c22_38) 23 c23_38) 24 c24_38) 25 c25_38) 26 c26_38) (va_up (va_up ia 27 (va_up (va_up (ia 27) 0 (nI x_1)) 1 (nI y_1))) 27 g27_38) K R mv) := hI
      have hI := wI_w (ws' := mW E ad kp tr (va_up (va_up (va_up (va_up (va_up iv 22 c22_38) 23 c23_38) 24 c24_38) 25 c25_38) 26 c26_38) (va_up ia 27 g27_38) K R mv) (by rw [(show (va_up (va_up (va_up (va_up (va_up iv 22 c22_38) 23 c23_38) 24 c24_38) 25 c25_38) 26 c26_38) = (va_up (va_up (va_up (va_up (va_up (va_up (va_up (va_up (va_up (va_up iv 22 (nI (nx b sz p_1))) 23 (nI (kd b sz p_1))) 24 (nI (fr b sz p_1))) 25 (nI (fg b sz p_1))) 26 c26_1) 22 c22_38) 23 c23_38) 24 c24_38) 25 c25_38) 26 c26_38) from ((Eq.trans (congrArg (fun z => va_up z 26 c26_38) (Eq.trans (congrArg (fun z => va_up z 25 c25_38) (Eq.trans (congrArg (fun z => va_up z 24 c24_38) (Eq.trans (congrArg (fun z => va_up z 23 c23_38) (up_s (by decide) (up_s (by decide) (up_s (by decide) (up_s (by decide) up_0))))) (up_s (by decide) (up_s (by decide) (up_s (by decide) up_0))))) (up_s (by decide) (up_s (by decide) up_0)))) (up_s (by decide) up_0))) up_0)).symm), (show (va_up ia 27 g27_38) = (va_up (va_up ia 27 (va_up (va_up (ia 27) 0 (nI x_1)) 1 (nI y_1))) 27 g27_38) from (up_0).symm)]) hI
      have hI : wI E AR sR H locs (mW E ad kp tr (va_up (va_up (va_up (va_up (va_up iv 22 c22_38) 23 c23_38) 24 c24_38) 25 c25_38) 26 c26_38) (va_up ia 27 g27_38) K R mv) := hI
      have hp : (r_38 = 1 ∧ numE b sz (nx b sz p_1) (Int32.toInt 0) (Int32.toInt 99) = .ok (fg b sz (nx b sz p_1), nx b sz (nx b sz p_1)) ∧ nI (nx b sz (nx b sz (nx b sz p_1))) = c22_38 ∧ nI (kd b sz (nx b sz (nx b sz p_1))) = c23_38 ∧ nI (fr b sz (nx b sz (nx b sz p_1))) = c24_38 ∧ nI (fg b sz (nx b sz (nx b sz p_1))) = c25_38 ∧ c26_1 = c26_38 ∧ va_up ((va_up (va_up (ia 27) 0 (nI x_1)) 1 (nI y_1))) 0 (nI (fg b sz (nx b sz p_1))) = g27_38) ∨ (r_38 = 0 ∧ numE b sz (nx b sz p_1) (Int32.toInt 0) (Int32.toInt 99) = .error (fr b sz (nx b sz p_1)) ∧ nI (fr b sz (nx b sz p_1)) = c26_38) := hp
      have h2_38 := hp
      rcases h2_38 with ⟨rfl, f0_38, rfl, rfl, rfl, rfl, rfl, rfl⟩ | ⟨rfl, f0_38, rfl⟩
      · skip
        have f0_38 : numE b sz (nx b sz p_1) 0 99 = .ok (fg b sz (nx b sz p_1), nx b sz (nx b sz p_1)) := f0_38
        have hI : wI E AR sR H locs (mW E ad kp tr (va_up (va_up (va_up (va_up (va_up iv 22 (nI (nx b sz (nx b sz (nx b sz p_1))))) 23 (nI (kd b sz (nx b sz (nx b sz p_1))))) 24 (nI (fr b sz (nx b sz (nx b sz p_1))))) 25 (nI (fg b sz (nx b sz (nx b sz p_1))))) 26 c26_1) (va_up ia 27 (va_up ((va_up (va_up (ia 27) 0 (nI x_1)) 1 (nI y_1))) 0 (nI (fg b sz (nx b sz p_1))))) K R mv) := hI
        refine lv_if_ne (tgt := 46) hxR hbR dX5_knowTold_41 (by decide) (fun _ => ?_) (fun c => absurd c (by decide))
        refine lv_aload_n hxR hbR dX5_knowTold_46 rfl (lv_at hl 3 rfl) ?_
        refine r_get hxR hbR hts hown hK hI okX5 (ci := 5) rfl 16 mW_o 27 (by decide) q1505 rfl (v := .ref (ad 27)) rfl dX5_knowTold_47 ?_
        refine lv_iconst (v := 0) hxR hbR dX5_knowTold_50 (by decide) ?_
        refine r_iald hxR hbR hK hI 29 (n := 2) (J := 0) (f := (va_up ((va_up (va_up (ia 27) 0 (nI x_1)) 1 (nI y_1))) 0 (nI (fg b sz (nx b sz p_1))))) (v := nI (fg b sz (nx b sz p_1))) (mW_g27 va_up_s) (by omega) (by decide) va_up_s dX5_knowTold_51 ?_
        refine lv_istore_n (lv' := [(3, .int (nI (fg b sz (nx b sz p_1)))), (2, .int (nI y_1)), (1, .int (nI x_1)), (0, .ref (ad 45))]) hxR hbR dX5_knowTold_52 rfl hl (by decide) rfl (fun ls hl => ?_)
        refine lv_aload_n hxR hbR dX5_knowTold_53 rfl (lv_at hl 3 rfl) ?_
        refine lv_iload_n hxR hbR dX5_knowTold_54 rfl (lv_at hl 2 rfl) ?_
        refine lv_iload_n hxR hbR dX5_knowTold_55 rfl (lv_at hl 1 rfl) ?_
        refine lv_iload_n hxR hbR dX5_knowTold_56 rfl (lv_at hl 0 rfl) ?_
        refine kVV (n := 3) (As := [.int (nI x_1), .int (nI y_1), .int (nI (fg b sz (nx b sz p_1)))]) (rest := []) (fun w => w) hxR hbR hmlR hts hown hK hA hl.1 isCtx.id hI (c5_knows l E ad kp tr (va_up (va_up (va_up (va_up (va_up iv 22 (nI (nx b sz (nx b sz (nx b sz p_1))))) 23 (nI (kd b sz (nx b sz (nx b sz p_1))))) 24 (nI (fr b sz (nx b sz (nx b sz p_1))))) 25 (nI (fg b sz (nx b sz (nx b sz p_1))))) 26 c26_1) (va_up ia 27 (va_up ((va_up (va_up (ia 27) 0 (nI x_1)) 1 (nI y_1))) 0 (nI (fg b sz (nx b sz p_1))))) K R mv x_1 y_1 (nI (fg b sz (nx b sz p_1))) (by first | omega | with_reducible assumption) (by first | omega | with_reducible assumption)) (lw_V q1737 q1739 qs49 q86 q1740) ⟨rfl, by decide +kernel⟩ 16 5 rfl rfl mW_o rfl (Nat.le_of_ble_eq_true rfl) (Nat.le_of_ble_eq_true rfl) ⟨Nat.le_of_ble_eq_true rfl, Nat.le_of_ble_eq_true rfl⟩ (Nat.le_of_ble_eq_true rfl) dX5_knowTold_57 (fun u H locs hp hI hz => ?_)
        have hI : wI E AR sR H locs (mW E ad kp tr (va_up (va_up (va_up (va_up (va_up iv 22 (nI (nx b sz (nx b sz (nx b sz p_1))))) 23 (nI (kd b sz (nx b sz (nx b sz p_1))))) 24 (nI (fr b sz (nx b sz (nx b sz p_1))))) 25 (nI (fg b sz (nx b sz (nx b sz p_1))))) 26 c26_1) (va_up ia 27 (va_up ((va_up (va_up (ia 27) 0 (nI x_1)) 1 (nI y_1))) 0 (nI (fg b sz (nx b sz p_1))))) (knF K x_1 y_1 (nI (fg b sz (nx b sz p_1)))) R mv) := hI
        refine lv_iconst (v := 1) hxR hbR dX5_knowTold_60 (by decide) ?_
        have hI : wI E AR sR H locs (mW E ad kp tr (va_up (va_up (va_up (va_up (va_up iv 22 (nI (nx b sz (nx b sz (nx b sz p_1))))) 23 (nI (kd b sz (nx b sz (nx b sz p_1))))) 24 (nI (fr b sz (nx b sz (nx b sz p_1))))) 25 (nI (fg b sz (nx b sz (nx b sz p_1))))) 26 c26_1) (va_up ia 27 (va_up ((va_up (va_up (ia 27) 0 (nI x_1)) 1 (nI y_1))) 0 (nI (fg b sz (nx b sz p_1))))) (knF K x_1 y_1 (nI (fg b sz (nx b sz p_1)))) R mv) := hI
        exact hret (nI (nx b sz (nx b sz (nx b sz p_1))), nI (kd b sz (nx b sz (nx b sz p_1))), nI (fr b sz (nx b sz (nx b sz p_1))), nI (fg b sz (nx b sz (nx b sz p_1))), c26_1, (va_up ((va_up (va_up (ia 27) 0 (nI x_1)) 1 (nI y_1))) 0 (nI (fg b sz (nx b sz p_1)))), knF K x_1 y_1 (nI (fg b sz (nx b sz p_1)))) 1 _ _ 0 0 _ _ dX5_knowTold_61 hI (by show (∃ K9_e : Nat → Nat → Int32, ∃ p_e : Nat, 1 = 1 ∧ knoE b sz n K a = .ok (K9_e, p_e) ∧ p_e ≤ sz ∧ nI (nx b sz p_e) = (nI (nx b sz (nx b sz (nx b sz p_1)))) ∧ nI (kd b sz p_e) = (nI (kd b sz (nx b sz (nx b sz p_1)))) ∧ nI (fr b sz p_e) = (nI (fr b sz (nx b sz (nx b sz p_1)))) ∧ nI (fg b sz p_e) = (nI (fg b sz (nx b sz (nx b sz p_1)))) ∧ K9_e = (knF K x_1 y_1 (nI (fg b sz (nx b sz p_1))))) ∨ (∃ f_e : Nat, 1 = 0 ∧ knoE b sz n K a = .error f_e ∧ nI (f_e) = c26_1); exact Or.inl ⟨_, _, rfl, knoE_3 f0_1 c_28 f0_38, hna2, rfl, rfl, rfl, rfl, rfl⟩) (Nat.le_of_ble_eq_true rfl) (Nat.le_of_ble_eq_true rfl) rfl
      · skip
        have f0_38 : numE b sz (nx b sz p_1) 0 99 = .error (fr b sz (nx b sz p_1)) := f0_38
        have hI : wI E AR sR H locs (mW E ad kp tr (va_up (va_up (va_up (va_up (va_up iv 22 c22_38) 23 c23_38) 24 c24_38) 25 c25_38) 26 (nI (fr b sz (nx b sz p_1)))) (va_up ia 27 g27_38) K R mv) := hI
        refine lv_if_ne (tgt := 46) hxR hbR dX5_knowTold_41 (by decide) (fun c => absurd c (by decide)) (fun _ => ?_)
        refine lv_iconst (v := 0) hxR hbR dX5_knowTold_44 (by decide) ?_
        have hI : wI E AR sR H locs (mW E ad kp tr (va_up (va_up (va_up (va_up (va_up iv 22 c22_38) 23 c23_38) 24 c24_38) 25 c25_38) 26 (nI (fr b sz (nx b sz p_1)))) (va_up ia 27 g27_38) K R mv) := hI
        exact hret (c22_38, c23_38, c24_38, c25_38, nI (fr b sz (nx b sz p_1)), g27_38, K) 0 _ _ 0 0 _ _ dX5_knowTold_45 hI (by show (∃ K9_e : Nat → Nat → Int32, ∃ p_e : Nat, 0 = 1 ∧ knoE b sz n K a = .ok (K9_e, p_e) ∧ p_e ≤ sz ∧ nI (nx b sz p_e) = c22_38 ∧ nI (kd b sz p_e) = c23_38 ∧ nI (fr b sz p_e) = c24_38 ∧ nI (fg b sz p_e) = c25_38 ∧ K9_e = K) ∨ (∃ f_e : Nat, 0 = 0 ∧ knoE b sz n K a = .error f_e ∧ nI (f_e) = (nI (fr b sz (nx b sz p_1)))); exact Or.inr ⟨_, rfl, knoE_2 f0_1 c_28 f0_38, rfl⟩) (Nat.le_of_ble_eq_true rfl) (Nat.le_of_ble_eq_true rfl) rfl
    · skip
      have c_28 : isW b sz p_1 7 = false := c_28
      refine lv_if_eq (tgt := 53) hxR hbR dX5_knowTold_31 (by decide) (fun _ => ?_) (fun c => absurd c (by decide))
      refine lv_aload_n hxR hbR dX5_knowTold_53 rfl (lv_at hl 3 rfl) ?_
      refine lv_iload_n hxR hbR dX5_knowTold_54 rfl (lv_at hl 2 rfl) ?_
      refine lv_iload_n hxR hbR dX5_knowTold_55 rfl (lv_at hl 1 rfl) ?_
      refine lv_iload_n hxR hbR dX5_knowTold_56 rfl (lv_at hl 0 rfl) ?_
      refine kVV (n := 3) (As := [.int (nI x_1), .int (nI y_1), .int 0]) (rest := []) (fun w => w) hxR hbR hmlR hts hown hK hA hl.1 isCtx.id hI (c5_knows l E ad kp tr (va_up (va_up (va_up (va_up (va_up iv 22 (nI (nx b sz p_1))) 23 (nI (kd b sz p_1))) 24 (nI (fr b sz p_1))) 25 (nI (fg b sz p_1))) 26 c26_1) (va_up ia 27 (va_up (va_up (ia 27) 0 (nI x_1)) 1 (nI y_1))) K R mv x_1 y_1 0 (by first | omega | with_reducible assumption) (by first | omega | with_reducible assumption)) (lw_V q1737 q1739 qs49 q86 q1740) ⟨rfl, by decide +kernel⟩ 16 5 rfl rfl mW_o rfl (Nat.le_of_ble_eq_true rfl) (Nat.le_of_ble_eq_true rfl) ⟨Nat.le_of_ble_eq_true rfl, Nat.le_of_ble_eq_true rfl⟩ (Nat.le_of_ble_eq_true rfl) dX5_knowTold_57 (fun u H locs hp hI hz => ?_)
      have hI : wI E AR sR H locs (mW E ad kp tr (va_up (va_up (va_up (va_up (va_up iv 22 (nI (nx b sz p_1))) 23 (nI (kd b sz p_1))) 24 (nI (fr b sz p_1))) 25 (nI (fg b sz p_1))) 26 c26_1) (va_up ia 27 (va_up (va_up (ia 27) 0 (nI x_1)) 1 (nI y_1))) (knF K x_1 y_1 0) R mv) := hI
      refine lv_iconst (v := 1) hxR hbR dX5_knowTold_60 (by decide) ?_
      have hI : wI E AR sR H locs (mW E ad kp tr (va_up (va_up (va_up (va_up (va_up iv 22 (nI (nx b sz p_1))) 23 (nI (kd b sz p_1))) 24 (nI (fr b sz p_1))) 25 (nI (fg b sz p_1))) 26 c26_1) (va_up ia 27 (va_up (va_up (ia 27) 0 (nI x_1)) 1 (nI y_1))) (knF K x_1 y_1 0) R mv) := hI
      exact hret (nI (nx b sz p_1), nI (kd b sz p_1), nI (fr b sz p_1), nI (fg b sz p_1), c26_1, (va_up (va_up (ia 27) 0 (nI x_1)) 1 (nI y_1)), knF K x_1 y_1 0) 1 _ _ 0 0 _ _ dX5_knowTold_61 hI (by show (∃ K9_e : Nat → Nat → Int32, ∃ p_e : Nat, 1 = 1 ∧ knoE b sz n K a = .ok (K9_e, p_e) ∧ p_e ≤ sz ∧ nI (nx b sz p_e) = (nI (nx b sz p_1)) ∧ nI (kd b sz p_e) = (nI (kd b sz p_1)) ∧ nI (fr b sz p_e) = (nI (fr b sz p_1)) ∧ nI (fg b sz p_e) = (nI (fg b sz p_1)) ∧ K9_e = (knF K x_1 y_1 0)) ∨ (∃ f_e : Nat, 1 = 0 ∧ knoE b sz n K a = .error f_e ∧ nI (f_e) = c26_1); exact Or.inl ⟨_, _, rfl, knoE_4 f0_1 c_28, f1_1, rfl, rfl, rfl, rfl, rfl⟩) (Nat.le_of_ble_eq_true rfl) (Nat.le_of_ble_eq_true rfl) rfl
  · skip
    have f0_1 : twoE b sz n a = .error f_1 := f0_1
    have hI : wI E AR sR H locs (mW E ad kp tr (va_up (va_up (va_up (va_up (va_up iv 22 c22_1) 23 c23_1) 24 c24_1) 25 c25_1) 26 (nI f_1)) (va_up ia 27 g27_1) K R mv) := hI
    refine lv_if_ne (tgt := 9) hxR hbR dX5_knowTold_4 (by decide) (fun c => absurd c (by decide)) (fun _ => ?_)
    refine lv_iconst (v := 0) hxR hbR dX5_knowTold_7 (by decide) ?_
    have hI : wI E AR sR H locs (mW E ad kp tr (va_up (va_up (va_up (va_up (va_up iv 22 c22_1) 23 c23_1) 24 c24_1) 25 c25_1) 26 (nI f_1)) (va_up ia 27 g27_1) K R mv) := hI
    exact hret (c22_1, c23_1, c24_1, c25_1, nI f_1, g27_1, K) 0 _ _ 0 0 _ _ dX5_knowTold_8 hI (by show (∃ K9_e : Nat → Nat → Int32, ∃ p_e : Nat, 0 = 1 ∧ knoE b sz n K a = .ok (K9_e, p_e) ∧ p_e ≤ sz ∧ nI (nx b sz p_e) = c22_1 ∧ nI (kd b sz p_e) = c23_1 ∧ nI (fr b sz p_e) = c24_1 ∧ nI (fg b sz p_e) = c25_1 ∧ K9_e = K) ∨ (∃ f_e : Nat, 0 = 0 ∧ knoE b sz n K a = .error f_e ∧ nI (f_e) = (nI f_1)); exact Or.inr ⟨_, rfl, knoE_1 f0_1, rfl⟩) (Nat.le_of_ble_eq_true rfl) (Nat.le_of_ble_eq_true rfl) rfl

theorem c5_metTold (l : Launch) (E : En) (ad : Nat → Nat) (kp tr : Option Nat) (iv : Nat → Int32) (ia K : Nat → Nat → Int32) (R : Nat → Nat → Int64) (mv : Nat → Int64) (b : Nat → Nat) (sz : Nat) (a : Nat) (n : Nat) (hsz : iv 8 = nI sz) (hz : sz ≤ 250) (htp : tpOk (ia 7) b sz) (h22 : iv 22 = nI (nx b sz a)) (h23 : iv 23 = nI (kd b sz a)) (h24 : iv 24 = nI (fr b sz a)) (h25 : iv 25 = nI (fg b sz a)) (ha : a ≤ sz) (hn : iv 10 = nI n) (hn7 : n ≤ 7) : CtI l E yX5_metTold cX5_metTold 2 .boolean 10 0 0 [.ref (ad 45)] (mW E ad kp tr iv ia K R mv) (fun (r : Int32) (u : Int32 × Int32 × Int32 × Int32 × Int32 × (Nat → Int32) × (Nat → Nat → Int32)) => (∃ S9_e : Nat, ∃ p9_e : Nat, r = 1 ∧ metE b sz n a = .ok (S9_e, p9_e) ∧ p9_e ≤ sz ∧ nI (nx b sz p9_e) = u.1 ∧ nI (kd b sz p9_e) = u.2.1 ∧ nI (fr b sz p9_e) = u.2.2.1 ∧ nI (fg b sz p9_e) = u.2.2.2.1 ∧ meetK K S9_e n = u.2.2.2.2.2.2) ∨ (∃ f_e : Nat, r = 0 ∧ metE b sz n a = .error f_e ∧ nI (f_e) = u.2.2.2.2.1)) (fun (u : Int32 × Int32 × Int32 × Int32 × Int32 × (Nat → Int32) × (Nat → Nat → Int32)) => mW E ad kp tr (va_up (va_up (va_up (va_up (va_up iv 22 u.1) 23 u.2.1) 24 u.2.2.1) 25 u.2.2.2.1) 26 u.2.2.2.2.1) (va_up ia 27 u.2.2.2.2.2.1) u.2.2.2.2.2.2 R mv) := by
  have hfa := fr_le (b := b) ha
  have hna := nx_le (b := b) ha
  have hfn := nx_ge (b := b) (sz := sz) (a := a)
  have hka := kd_lt (b := b) (sz := sz) (a := a)
  have hga := fg_le htp.lt ha
  have hN1 : (nI n - 1).toInt = (n : Int) - 1 := nI_m1 (by omega)
  have hn2 := nx_le (b := b) hna
  have h27 : 2 ^ n ≤ 2 ^ 7 := Nat.pow_le_pow_right (by decide) hn7
  refine CtI.of (by decide +kernel) (Nat.le_of_ble_eq_true rfl) ?_
  intro pR eR sR mR aR bR tR cR AR ls QR hxR hbR hmlR hts hown hlk hnm hA hK hI hl hret
  have hl : lv_has ls 2 [(0, .ref (ad 45))] := hl
  refine lv_aload_n hxR hbR dX5_metTold_0 rfl (lv_at hl 0 rfl) ?_
  refine lv_iconst (v := 0) hxR hbR dX5_metTold_1 (by decide) ?_
  refine lv_aload_n hxR hbR dX5_metTold_2 rfl (lv_at hl 0 rfl) ?_
  refine r_get hxR hbR hts hown hK hI okX5 (ci := 5) rfl 16 mW_o 10 (by decide) q1488 rfl (v := .int (nI n)) (al hn) dX5_metTold_3 ?_
  refine lv_iconst (v := 1) hxR hbR dX5_metTold_6 (by decide) ?_
  refine lv_isub hxR hbR dX5_metTold_7 ?_
  refine kVI (n := 2) (As := [.int 0, .int ((nI n) - 1)]) (rest := []) (fun w => w) hxR hbR hmlR hts hown hK hA hl.1 isCtx.id hI (c5_tells l E ad kp tr iv ia K R mv b sz a 0 ((nI n) - 1) hsz (by first | omega | with_reducible assumption) (tpOk.of rfl htp) h22 h23 h24 h25 (by first | omega | with_reducible assumption)) (lw_V q1815 q1817 qs56 q86 q1818) ⟨rfl, by decide +kernel⟩ 16 5 rfl rfl mW_o rfl (Nat.le_of_ble_eq_true rfl) (Nat.le_of_ble_eq_true rfl) ⟨Nat.le_of_ble_eq_true rfl, Nat.le_of_ble_eq_true rfl⟩ (Nat.le_of_ble_eq_true rfl) dX5_metTold_8 (fun r_8 u H locs hp hI hz => ?_)
  obtain ⟨c22_8, c23_8, c24_8, c25_8, c26_8, g27_8⟩ := u
  have hI : wI E AR sR H locs (mW E ad kp tr (va_up (va_up (va_up (va_up (va_up iv 22 c22_8) 23 c23_8) 24 c24_8) 25 c25_8) 26 c26_8) (va_up ia 27 g27_8) K R mv) := hI
  have hp : (r_8 = 1 ∧ numE b sz (nx b sz a) (Int32.toInt 0) (Int32.toInt ((nI n) - 1)) = .ok (fg b sz (nx b sz a), nx b sz (nx b sz a)) ∧ nI (nx b sz (nx b sz (nx b sz a))) = c22_8 ∧ nI (kd b sz (nx b sz (nx b sz a))) = c23_8 ∧ nI (fr b sz (nx b sz (nx b sz a))) = c24_8 ∧ nI (fg b sz (nx b sz (nx b sz a))) = c25_8 ∧ iv 26 = c26_8 ∧ va_up (ia 27) 0 (nI (fg b sz (nx b sz a))) = g27_8) ∨ (r_8 = 0 ∧ numE b sz (nx b sz a) (Int32.toInt 0) (Int32.toInt ((nI n) - 1)) = .error (fr b sz (nx b sz a)) ∧ nI (fr b sz (nx b sz a)) = c26_8) := hp
  have h2_8 := hp
  rcases h2_8 with ⟨rfl, f0_8, rfl, rfl, rfl, rfl, rfl, rfl⟩ | ⟨rfl, f0_8, rfl⟩
  · skip
    have f0_8 : numE b sz (nx b sz a) 0 (Int32.toInt ((nI n) - 1)) = .ok (fg b sz (nx b sz a), nx b sz (nx b sz a)) := f0_8
    have hI : wI E AR sR H locs (mW E ad kp tr (va_up (va_up (va_up (va_up (va_up iv 22 (nI (nx b sz (nx b sz (nx b sz a))))) 23 (nI (kd b sz (nx b sz (nx b sz a))))) 24 (nI (fr b sz (nx b sz (nx b sz a))))) 25 (nI (fg b sz (nx b sz (nx b sz a))))) 26 (iv 26)) (va_up ia 27 (va_up (ia 27) 0 (nI (fg b sz (nx b sz a))))) K R mv) := hI
    rw [hN1] at f0_8
    have hx8 := numE_ok f0_8
    have hp8 : 2 ^ fg b sz (nx b sz a) < 2 ^ 7 := Nat.pow_lt_pow_right (by decide) (by omega)
    refine lv_if_ne (tgt := 16) hxR hbR dX5_metTold_11 (by decide) (fun _ => ?_) (fun c => absurd c (by decide))
    refine lv_iconst (v := 1) hxR hbR dX5_metTold_16 (by decide) ?_
    refine lv_aload_n hxR hbR dX5_metTold_17 rfl (lv_at hl 0 rfl) ?_
    refine r_get hxR hbR hts hown hK hI okX5 (ci := 5) rfl 16 mW_o 27 (by decide) q1505 rfl (v := .ref (ad 27)) rfl dX5_metTold_18 ?_
    refine lv_iconst (v := 0) hxR hbR dX5_metTold_21 (by decide) ?_
    refine r_iald hxR hbR hK hI 29 (n := 2) (J := 0) (f := (va_up (ia 27) 0 (nI (fg b sz (nx b sz a))))) (v := nI (fg b sz (nx b sz a))) (mW_g27 va_up_s) (by omega) (by decide) va_up_s dX5_metTold_22 ?_
    refine lv_ishl hxR hbR dX5_metTold_23 ?_
    refine lv_as (y := nI (2 ^ (fg b sz (nx b sz a)))) (nb_shl (fg b sz (nx b sz a)) (by omega)) ?_
    refine lv_istore_n (lv' := [(1, .int (nI (2 ^ (fg b sz (nx b sz a))))), (0, .ref (ad 45))]) hxR hbR dX5_metTold_24 rfl hl (by decide) rfl (fun ls hl => ?_)
    have lp_25 : ∀ (fu : Nat) (S : Nat) (p : Nat) (q22 : Nat) (q23 : Nat) (q24 : Nat) (q25 : Nat) (c26 : Int32) (g27 : Nat → Int32), (q22 = nx b sz p) → (q23 = kd b sz p) → (q24 = fr b sz p) → (q25 = fg b sz p) → (p ≤ sz) → (S < 2 ^ 7) → (metF b sz n (sz + 1 - p) S p = metE b sz n a) → sz - p < fu → ∀ (H : Heap) (locs : List Loc), wI E AR sR H locs (mW E ad kp tr (va_up (va_up (va_up (va_up (va_up iv 22 (nI q22)) 23 (nI q23)) 24 (nI q24)) 25 (nI q25)) 26 c26) (va_up ia 27 g27) K R mv) → ∀ ls : Array Slot, lv_has ls 2 [(0, .ref (ad 45)), (1, .int (nI S))] → W pR l eR (rmF 10 0 0) sR mR aR bR tR cR H locs 0 0 QR (F0 mR 25 ls []) := by
      intro fu
      induction fu with
      | zero =>
        intro S p q22 q23 q24 q25 c26 g27 hq22 hq23 hq24 hq25 hps hS7 hM hfu
        exact absurd hfu (Nat.not_lt_zero _)
      | succ fu ih_25 =>
        intro S p q22 q23 q24 q25 c26 g27 hq22 hq23 hq24 hq25 hps hS7 hM hfu H locs hI ls hl
        subst hq22 hq23 hq24 hq25
        have hfa1 := fr_le (b := b) hps
        have hna1 := nx_le (b := b) hps
        have hga1 := fg_le htp.lt hps
        have hka1 := kd_lt (b := b) (sz := sz) (a := p)
        refine lv_aload_n hxR hbR dX5_metTold_25 rfl (lv_at hl 0 rfl) ?_
        refine r_get hxR hbR hts hown hK hI okX5 (ci := 5) rfl 16 mW_o 23 (by decide) q1501 rfl (v := .int (nI (kd b sz p))) (al (up_n (by decide) (up_n (by decide) (up_n (by decide) va_up_s)))) dX5_metTold_26 ?_
        refine lv_iconst (v := 2) hxR hbR dX5_metTold_29 (by decide) ?_
        refine lv_icmp_ne (tgt := 91) hxR hbR dX5_metTold_30 (by decide) (fun c_30 => ?_) (fun c_30 => ?_)
        · skip
          have c_30 : ¬ (kd b sz p) = 2 := fun zz => c_30 ((n_eq (a := (kd b sz p)) (b := 2) (by omega) (by omega)).mpr zz)
          refine lv_aload_n hxR hbR dX5_metTold_91 rfl (lv_at hl 0 rfl) ?_
          refine lv_iload_n hxR hbR dX5_metTold_92 rfl (lv_at hl 1 rfl) ?_
          refine kVI (n := 1) (As := [.int (nI S)]) (rest := []) (fun w => w) hxR hbR hmlR hts hown hK hA hl.1 isCtx.id hI (c5_meets l E ad kp tr (va_up (va_up (va_up (va_up (va_up iv 22 (nI (nx b sz p))) 23 (nI (kd b sz p))) 24 (nI (fr b sz p))) 25 (nI (fg b sz p))) 26 c26) (va_up ia 27 g27) K R mv n S (up_n (by decide) (up_n (by decide) (up_n (by decide) (up_n (by decide) (up_n (by decide) hn))))) (by omega) (by omega)) (lw_V q1845 q1847 qs62 q86 q1848) ⟨rfl, by decide +kernel⟩ 16 5 rfl rfl mW_o rfl (Nat.le_of_ble_eq_true rfl) (Nat.le_of_ble_eq_true rfl) ⟨Nat.le_of_ble_eq_true rfl, Nat.le_of_ble_eq_true rfl⟩ (Nat.le_of_ble_eq_true rfl) dX5_metTold_93 (fun r_93 u H locs hp hI hz => ?_)
          have hI : wI E AR sR H locs (mW E ad kp tr (va_up (va_up (va_up (va_up (va_up iv 22 (nI (nx b sz p))) 23 (nI (kd b sz p))) 24 (nI (fr b sz p))) 25 (nI (fg b sz p))) 26 c26) (va_up ia 27 g27) (meetK K S n) R mv) := hI
          have hp : r_93 = nI (mC K S n) := hp
          have hr_93 := hp
          subst hr_93
          refine lv_pop hxR hbR dX5_metTold_96 rfl ?_
          refine lv_iconst (v := 1) hxR hbR dX5_metTold_97 (by decide) ?_
          have hI : wI E AR sR H locs (mW E ad kp tr (va_up (va_up (va_up (va_up (va_up iv 22 (nI (nx b sz p))) 23 (nI (kd b sz p))) 24 (nI (fr b sz p))) 25 (nI (fg b sz p))) 26 c26) (va_up ia 27 g27) (meetK K S n) R mv) := hI
          exact hret (nI (nx b sz p), nI (kd b sz p), nI (fr b sz p), nI (fg b sz p), c26, g27, meetK K S n) 1 _ _ 0 0 _ _ dX5_metTold_98 hI (by show (∃ S9_e : Nat, ∃ p9_e : Nat, 1 = 1 ∧ metE b sz n a = .ok (S9_e, p9_e) ∧ p9_e ≤ sz ∧ nI (nx b sz p9_e) = (nI (nx b sz p)) ∧ nI (kd b sz p9_e) = (nI (kd b sz p)) ∧ nI (fr b sz p9_e) = (nI (fr b sz p)) ∧ nI (fg b sz p9_e) = (nI (fg b sz p)) ∧ meetK K S9_e n = (meetK K S n)) ∨ (∃ f_e : Nat, 1 = 0 ∧ metE b sz n a = .error f_e ∧ nI (f_e) = c26); exact Or.inl ⟨_, _, rfl, (hM.symm.trans (metF_n c_30)), hps, rfl, rfl, rfl, rfl, rfl⟩) (Nat.le_of_ble_eq_true rfl) (Nat.le_of_ble_eq_true rfl) rfl
        · skip
          have c_30 : (kd b sz p) = 2 := (n_eq (a := (kd b sz p)) (b := 2) (by omega) (by omega)).mp c_30
          refine lv_aload_n hxR hbR dX5_metTold_33 rfl (lv_at hl 0 rfl) ?_
          refine r_get hxR hbR hts hown hK hI okX5 (ci := 5) rfl 16 mW_o 25 (by decide) q1503 rfl (v := .int (nI (fg b sz p))) (al (up_n (by decide) va_up_s)) dX5_metTold_34 ?_
          refine lv_aload_n hxR hbR dX5_metTold_37 rfl (lv_at hl 0 rfl) ?_
          refine r_get hxR hbR hts hown hK hI okX5 (ci := 5) rfl 16 mW_o 10 (by decide) q1488 rfl (v := .int (nI n)) (al (up_n (by decide) (up_n (by decide) (up_n (by decide) (up_n (by decide) (up_n (by decide) hn)))))) dX5_metTold_38 ?_
          refine lv_icmp_ge (tgt := 60) hxR hbR dX5_metTold_41 (by decide) (fun c_41 => ?_) (fun c_41 => ?_)
          · skip
            have c_41 : n ≤ (fg b sz p) := (n_le (a := n) (b := (fg b sz p)) (by omega) (by omega)).mp c_41
            have hnb : ¬ (fg b sz p < n ∧ S.testBit (fg b sz p) = true) := fun z => by first | omega | (rw [c_49] at z; exact absurd z.2 (by decide))
            refine lv_aload_n hxR hbR dX5_metTold_60 rfl (lv_at hl 0 rfl) ?_
            refine lv_iconst (v := 0) hxR hbR dX5_metTold_61 (by decide) ?_
            refine lv_iconst (v := 0) hxR hbR dX5_metTold_62 (by decide) ?_
            refine lv_aload_n hxR hbR dX5_metTold_63 rfl (lv_at hl 0 rfl) ?_
            refine r_get hxR hbR hts hown hK hI okX5 (ci := 5) rfl 16 mW_o 10 (by decide) q1488 rfl (v := .int (nI n)) (al (up_n (by decide) (up_n (by decide) (up_n (by decide) (up_n (by decide) (up_n (by decide) hn)))))) dX5_metTold_64 ?_
            refine lv_iconst (v := 1) hxR hbR dX5_metTold_67 (by decide) ?_
            refine lv_isub hxR hbR dX5_metTold_68 ?_
            refine kVI (n := 3) (As := [.int 0, .int 0, .int ((nI n) - 1)]) (rest := []) (fun w => w) hxR hbR hmlR hts hown hK hA hl.1 isCtx.id hI (c5_number l E ad kp tr (va_up (va_up (va_up (va_up (va_up iv 22 (nI (nx b sz p))) 23 (nI (kd b sz p))) 24 (nI (fr b sz p))) 25 (nI (fg b sz p))) 26 c26) (va_up ia 27 g27) K R mv b sz p 0 0 ((nI n) - 1) (up_n (by decide) (up_n (by decide) (up_n (by decide) (up_n (by decide) (up_n (by decide) hsz))))) (by first | omega | with_reducible assumption) (tpOk.of (up_n (by decide) rfl) htp) (up_n (by decide) (up_n (by decide) (up_n (by decide) (up_n (by decide) va_up_s)))) (up_n (by decide) (up_n (by decide) (up_n (by decide) va_up_s))) (up_n (by decide) (up_n (by decide) va_up_s)) (up_n (by decide) va_up_s) (by first | omega | with_reducible assumption) (by first | omega | with_reducible assumption)) (lw_V q1819 q1821 qs57 q86 q1822) ⟨rfl, by decide +kernel⟩ 16 5 rfl rfl mW_o rfl (Nat.le_of_ble_eq_true rfl) (Nat.le_of_ble_eq_true rfl) ⟨Nat.le_of_ble_eq_true rfl, Nat.le_of_ble_eq_true rfl⟩ (Nat.le_of_ble_eq_true rfl) dX5_metTold_69 (fun r_69 u H locs hp hI hz => ?_)
            obtain ⟨c22_69, c23_69, c24_69, c25_69, c26_69, g27_69⟩ := u
            have hI : wI E AR sR H locs (mW E ad kp tr (va_up (va_up (va_up (va_up (va_up (va_up (va_up (va_up (va_up (va_up iv 22 (nI (nx b sz p))) 23 (nI (kd b sz p))) 24 (nI (fr b sz p))) 25 (nI (fg b sz p))) 26 c26) 22 c22_69) 23 c23_69) 24 c24_69) 25 c25_69) 26 c26_69) (va_up (va_up ia 27 g27) 27 g27_69) K R mv) := hI
            have hI := wI_w (ws' := mW E ad kp tr (va_up (va_up (va_up (va_up (va_up iv 22 c22_69) 23 c23_69) 24 c24_69) 25 c25_69) 26 c26_69) (va_up ia 27 g27_69) K R mv) (by rw [(show (va_up (va_up (va_up (va_up (va_up iv 22 c22_69) 23 c23_69) 24 c24_69) 25 c25_69) 26 c26_69) = (va_up (va_up (va_up (va_up (va_up (va_up (va_up (va_up (va_up (va_up iv 22 (nI (nx b sz p))) 23 (nI (kd b sz p))) 24 (nI (fr b sz p))) 25 (nI (fg b sz p))) 26 c26) 22 c22_69) 23 c23_69) 24 c24_69) 25 c25_69) 26 c26_69) from ((Eq.trans (congrArg (fun z => va_up z 26 c26_69) (Eq.trans (congrArg (fun z => va_up z 25 c25_69) (Eq.trans (congrArg (fun z => va_up z 24 c24_69) (Eq.trans (congrArg (fun z => va_up z 23 c23_69) (up_s (by decide) (up_s (by decide) (up_s (by decide) (up_s (by decide) up_0))))) (up_s (by decide) (up_s (by decide) (up_s (by decide) up_0))))) (up_s (by decide) (up_s (by decide) up_0)))) (up_s (by decide) up_0))) up_0)).symm), (show (va_up ia 27 g27_69) = (va_up (va_up ia 27 g27) 27 g27_69) from (up_0).symm)]) hI
            have hI : wI E AR sR H locs (mW E ad kp tr (va_up (va_up (va_up (va_up (va_up iv 22 c22_69) 23 c23_69) 24 c24_69) 25 c25_69) 26 c26_69) (va_up ia 27 g27_69) K R mv) := hI
            have hp : (r_69 = 1 ∧ numE b sz p (Int32.toInt 0) (Int32.toInt ((nI n) - 1)) = .ok (fg b sz p, nx b sz p) ∧ nI (nx b sz (nx b sz p)) = c22_69 ∧ nI (kd b sz (nx b sz p)) = c23_69 ∧ nI (fr b sz (nx b sz p)) = c24_69 ∧ nI (fg b sz (nx b sz p)) = c25_69 ∧ c26 = c26_69 ∧ va_up (g27) 0 (nI (fg b sz p)) = g27_69) ∨ (r_69 = 0 ∧ numE b sz p (Int32.toInt 0) (Int32.toInt ((nI n) - 1)) = .error (fr b sz p) ∧ nI (fr b sz p) = c26_69) := hp
            have h2_69 := hp
            rcases h2_69 with ⟨rfl, f0_69, rfl, rfl, rfl, rfl, rfl, rfl⟩ | ⟨rfl, f0_69, rfl⟩
            · skip
              have f0_69 : numE b sz p 0 (Int32.toInt ((nI n) - 1)) = .ok (fg b sz p, nx b sz p) := f0_69
              have hI : wI E AR sR H locs (mW E ad kp tr (va_up (va_up (va_up (va_up (va_up iv 22 (nI (nx b sz (nx b sz p)))) 23 (nI (kd b sz (nx b sz p)))) 24 (nI (fr b sz (nx b sz p)))) 25 (nI (fg b sz (nx b sz p)))) 26 c26) (va_up ia 27 (va_up (g27) 0 (nI (fg b sz p)))) K R mv) := hI
              rw [hN1] at f0_69
              have hx9 := numE_ok f0_69
              have hp9 : 2 ^ fg b sz p < 2 ^ 7 := Nat.pow_lt_pow_right (by decide) (by omega)
              have hgt := nx_gt (b := b) (by rw [c_30]; decide) hps
              refine lv_if_ne (tgt := 77) hxR hbR dX5_metTold_72 (by decide) (fun _ => ?_) (fun c => absurd c (by decide))
              refine lv_iload_n hxR hbR dX5_metTold_77 rfl (lv_at hl 1 rfl) ?_
              refine lv_iconst (v := 1) hxR hbR dX5_metTold_78 (by decide) ?_
              refine lv_aload_n hxR hbR dX5_metTold_79 rfl (lv_at hl 0 rfl) ?_
              refine r_get hxR hbR hts hown hK hI okX5 (ci := 5) rfl 16 mW_o 27 (by decide) q1505 rfl (v := .ref (ad 27)) rfl dX5_metTold_80 ?_
              refine lv_iconst (v := 0) hxR hbR dX5_metTold_83 (by decide) ?_
              refine r_iald hxR hbR hK hI 29 (n := 2) (J := 0) (f := (va_up (g27) 0 (nI (fg b sz p)))) (v := nI (fg b sz p)) (mW_g27 va_up_s) (by omega) (by decide) va_up_s dX5_metTold_84 ?_
              refine lv_ishl hxR hbR dX5_metTold_85 ?_
              refine lv_as (y := nI (2 ^ (fg b sz p))) (nb_shl (fg b sz p) (by omega)) ?_
              refine lv_ior hxR hbR dX5_metTold_86 ?_
              refine lv_as (y := nI (S ||| (2 ^ (fg b sz p)))) (nb_or S (2 ^ (fg b sz p))) ?_
              refine lv_istore_n (lv' := [(1, .int (nI (S ||| (2 ^ (fg b sz p))))), (0, .ref (ad 45))]) hxR hbR dX5_metTold_87 rfl hl (by decide) rfl (fun ls hl => ?_)
              refine lv_goto (tgt := 25) hxR hbR dX5_metTold_88 (by decide) ?_
              exact ih_25 (S ||| (2 ^ (fg b sz p))) (nx b sz p) (nx b sz (nx b sz p)) (kd b sz (nx b sz p)) (fr b sz (nx b sz p)) (fg b sz (nx b sz p)) c26 (va_up (g27) 0 (nI (fg b sz p))) rfl rfl rfl rfl hna1 (or_lt hS7 hp9) (by rw [metF_3 hps c_30 hnb f0_69]; exact hM) (by omega) _ _ hI _ (lv_sub hl [1, 0] rfl)
            · skip
              have f0_69 : numE b sz p 0 (Int32.toInt ((nI n) - 1)) = .error (fr b sz p) := f0_69
              have hI : wI E AR sR H locs (mW E ad kp tr (va_up (va_up (va_up (va_up (va_up iv 22 c22_69) 23 c23_69) 24 c24_69) 25 c25_69) 26 (nI (fr b sz p))) (va_up ia 27 g27_69) K R mv) := hI
              rw [hN1] at f0_69
              refine lv_if_ne (tgt := 77) hxR hbR dX5_metTold_72 (by decide) (fun c => absurd c (by decide)) (fun _ => ?_)
              refine lv_iconst (v := 0) hxR hbR dX5_metTold_75 (by decide) ?_
              have hI : wI E AR sR H locs (mW E ad kp tr (va_up (va_up (va_up (va_up (va_up iv 22 c22_69) 23 c23_69) 24 c24_69) 25 c25_69) 26 (nI (fr b sz p))) (va_up ia 27 g27_69) K R mv) := hI
              exact hret (c22_69, c23_69, c24_69, c25_69, nI (fr b sz p), g27_69, K) 0 _ _ 0 0 _ _ dX5_metTold_76 hI (by show (∃ S9_e : Nat, ∃ p9_e : Nat, 0 = 1 ∧ metE b sz n a = .ok (S9_e, p9_e) ∧ p9_e ≤ sz ∧ nI (nx b sz p9_e) = c22_69 ∧ nI (kd b sz p9_e) = c23_69 ∧ nI (fr b sz p9_e) = c24_69 ∧ nI (fg b sz p9_e) = c25_69 ∧ meetK K S9_e n = K) ∨ (∃ f_e : Nat, 0 = 0 ∧ metE b sz n a = .error f_e ∧ nI (f_e) = (nI (fr b sz p))); exact Or.inr ⟨_, rfl, (hM.symm.trans (metF_2 hps c_30 hnb f0_69)), rfl⟩) (Nat.le_of_ble_eq_true rfl) (Nat.le_of_ble_eq_true rfl) rfl
          · skip
            have c_41 : (fg b sz p) < n := Nat.lt_of_not_le (fun zz => c_41 ((n_le (a := n) (b := (fg b sz p)) (by omega) (by omega)).mpr zz))
            refine lv_iload_n hxR hbR dX5_metTold_44 rfl (lv_at hl 1 rfl) ?_
            refine lv_aload_n hxR hbR dX5_metTold_45 rfl (lv_at hl 0 rfl) ?_
            refine r_get hxR hbR hts hown hK hI okX5 (ci := 5) rfl 16 mW_o 25 (by decide) q1503 rfl (v := .int (nI (fg b sz p))) (al (up_n (by decide) va_up_s)) dX5_metTold_46 ?_
            refine kSI (n := 2) (As := [.int (nI S), .int (nI (fg b sz p))]) (rest := []) (fun w => w ++ (mW E ad kp tr (va_up (va_up (va_up (va_up (va_up iv 22 (nI (nx b sz p))) 23 (nI (kd b sz p))) 24 (nI (fr b sz p))) 25 (nI (fg b sz p))) 26 c26) (va_up ia 27 g27) K R mv)) hxR hbR hmlR hts hown hK hA hl.1 (isCtx.suf _) hI (c5_has l E  S (fg b sz p) (by omega) (by omega)) (lw_S q1680 q1681 q86 q1682) (by decide +kernel) rfl (Nat.le_of_ble_eq_true rfl) (Nat.le_of_ble_eq_true rfl) ⟨Nat.le_of_ble_eq_true rfl, Nat.le_of_ble_eq_true rfl⟩ (Nat.le_of_ble_eq_true rfl) dX5_metTold_49 (fun r_49 u H locs hp hI hz => ?_)
            have hI : wI E AR sR H locs (mW E ad kp tr (va_up (va_up (va_up (va_up (va_up iv 22 (nI (nx b sz p))) 23 (nI (kd b sz p))) 24 (nI (fr b sz p))) 25 (nI (fg b sz p))) 26 c26) (va_up ia 27 g27) K R mv) := hI
            have hp : r_49 = b2i (S.testBit (fg b sz p)) := hp
            have hr_49 := hp
            rcases b2i_cases hr_49 with ⟨c_49, rfl⟩ | ⟨c_49, rfl⟩
            · skip
              have c_49 : S.testBit (fg b sz p) = true := c_49
              refine lv_if_eq (tgt := 60) hxR hbR dX5_metTold_52 (by decide) (fun c => absurd c (by decide)) (fun _ => ?_)
              refine lv_aload_n hxR hbR dX5_metTold_55 rfl (lv_at hl 0 rfl) ?_
              refine kVI (n := 0) (As := []) (rest := []) (fun w => w) hxR hbR hmlR hts hown hK hA hl.1 isCtx.id hI (c5_wrong l E ad kp tr (va_up (va_up (va_up (va_up (va_up iv 22 (nI (nx b sz p))) 23 (nI (kd b sz p))) 24 (nI (fr b sz p))) 25 (nI (fg b sz p))) 26 c26) (va_up ia 27 g27) K R mv  ) (lw_V q1823 q1825 qs58 q86 q1826) ⟨rfl, by decide +kernel⟩ 16 5 rfl rfl mW_o rfl (Nat.le_of_ble_eq_true rfl) (Nat.le_of_ble_eq_true rfl) ⟨Nat.le_of_ble_eq_true rfl, Nat.le_of_ble_eq_true rfl⟩ (Nat.le_of_ble_eq_true rfl) dX5_metTold_56 (fun r_56 u H locs hp hI hz => ?_)
              have hI : wI E AR sR H locs (mW E ad kp tr (va_up (va_up (va_up (va_up (va_up (va_up iv 22 (nI (nx b sz p))) 23 (nI (kd b sz p))) 24 (nI (fr b sz p))) 25 (nI (fg b sz p))) 26 c26) 26 (nI (fr b sz p))) (va_up ia 27 g27) K R mv) := hI
              have hI := wI_w (ws' := mW E ad kp tr (va_up (va_up (va_up (va_up (va_up iv 22 (nI (nx b sz p))) 23 (nI (kd b sz p))) 24 (nI (fr b sz p))) 25 (nI (fg b sz p))) 26 (nI (fr b sz p))) (va_up ia 27 g27) K R mv) (by rw [(show (va_up (va_up (va_up (va_up (va_up iv 22 (nI (nx b sz p))) 23 (nI (kd b sz p))) 24 (nI (fr b sz p))) 25 (nI (fg b sz p))) 26 (nI (fr b sz p))) = (va_up (va_up (va_up (va_up (va_up (va_up iv 22 (nI (nx b sz p))) 23 (nI (kd b sz p))) 24 (nI (fr b sz p))) 25 (nI (fg b sz p))) 26 c26) 26 (nI (fr b sz p))) from (up_0).symm)]) hI
              have hI : wI E AR sR H locs (mW E ad kp tr (va_up (va_up (va_up (va_up (va_up iv 22 (nI (nx b sz p))) 23 (nI (kd b sz p))) 24 (nI (fr b sz p))) 25 (nI (fg b sz p))) 26 (nI (fr b sz p))) (va_up ia 27 g27) K R mv) := hI
              have hp : r_56 = 0 := hp
              have hr_56 := hp
              subst hr_56
              have hI : wI E AR sR H locs (mW E ad kp tr (va_up (va_up (va_up (va_up (va_up iv 22 (nI (nx b sz p))) 23 (nI (kd b sz p))) 24 (nI (fr b sz p))) 25 (nI (fg b sz p))) 26 (nI (fr b sz p))) (va_up ia 27 g27) K R mv) := hI
              exact hret (nI (nx b sz p), nI (kd b sz p), nI (fr b sz p), nI (fg b sz p), (nI (fr b sz p)), g27, K) 0 _ _ 0 0 _ _ dX5_metTold_59 hI (by show (∃ S9_e : Nat, ∃ p9_e : Nat, 0 = 1 ∧ metE b sz n a = .ok (S9_e, p9_e) ∧ p9_e ≤ sz ∧ nI (nx b sz p9_e) = (nI (nx b sz p)) ∧ nI (kd b sz p9_e) = (nI (kd b sz p)) ∧ nI (fr b sz p9_e) = (nI (fr b sz p)) ∧ nI (fg b sz p9_e) = (nI (fg b sz p)) ∧ meetK K S9_e n = K) ∨ (∃ f_e : Nat, 0 = 0 ∧ metE b sz n a = .error f_e ∧ nI (f_e) = (nI (fr b sz p))); exact Or.inr ⟨_, rfl, (hM.symm.trans (metF_1 hps c_30 c_41 c_49)), rfl⟩) (Nat.le_of_ble_eq_true rfl) (Nat.le_of_ble_eq_true rfl) rfl
            · skip
              have c_49 : S.testBit (fg b sz p) = false := c_49
              refine lv_if_eq (tgt := 60) hxR hbR dX5_metTold_52 (by decide) (fun _ => ?_) (fun c => absurd c (by decide))
              have hnb : ¬ (fg b sz p < n ∧ S.testBit (fg b sz p) = true) := fun z => by first | omega | (rw [c_49] at z; exact absurd z.2 (by decide))
              refine lv_aload_n hxR hbR dX5_metTold_60 rfl (lv_at hl 0 rfl) ?_
              refine lv_iconst (v := 0) hxR hbR dX5_metTold_61 (by decide) ?_
              refine lv_iconst (v := 0) hxR hbR dX5_metTold_62 (by decide) ?_
              refine lv_aload_n hxR hbR dX5_metTold_63 rfl (lv_at hl 0 rfl) ?_
              refine r_get hxR hbR hts hown hK hI okX5 (ci := 5) rfl 16 mW_o 10 (by decide) q1488 rfl (v := .int (nI n)) (al (up_n (by decide) (up_n (by decide) (up_n (by decide) (up_n (by decide) (up_n (by decide) hn)))))) dX5_metTold_64 ?_
              refine lv_iconst (v := 1) hxR hbR dX5_metTold_67 (by decide) ?_
              refine lv_isub hxR hbR dX5_metTold_68 ?_
              refine kVI (n := 3) (As := [.int 0, .int 0, .int ((nI n) - 1)]) (rest := []) (fun w => w) hxR hbR hmlR hts hown hK hA hl.1 isCtx.id hI (c5_number l E ad kp tr (va_up (va_up (va_up (va_up (va_up iv 22 (nI (nx b sz p))) 23 (nI (kd b sz p))) 24 (nI (fr b sz p))) 25 (nI (fg b sz p))) 26 c26) (va_up ia 27 g27) K R mv b sz p 0 0 ((nI n) - 1) (up_n (by decide) (up_n (by decide) (up_n (by decide) (up_n (by decide) (up_n (by decide) hsz))))) (by first | omega | with_reducible assumption) (tpOk.of (up_n (by decide) rfl) htp) (up_n (by decide) (up_n (by decide) (up_n (by decide) (up_n (by decide) va_up_s)))) (up_n (by decide) (up_n (by decide) (up_n (by decide) va_up_s))) (up_n (by decide) (up_n (by decide) va_up_s)) (up_n (by decide) va_up_s) (by first | omega | with_reducible assumption) (by first | omega | with_reducible assumption)) (lw_V q1819 q1821 qs57 q86 q1822) ⟨rfl, by decide +kernel⟩ 16 5 rfl rfl mW_o rfl (Nat.le_of_ble_eq_true rfl) (Nat.le_of_ble_eq_true rfl) ⟨Nat.le_of_ble_eq_true rfl, Nat.le_of_ble_eq_true rfl⟩ (Nat.le_of_ble_eq_true rfl) dX5_metTold_69 (fun r_69 u H locs hp hI hz => ?_)
              obtain ⟨c22_69, c23_69, c24_69, c25_69, c26_69, g27_69⟩ := u
              have hI : wI E AR sR H locs (mW E ad kp tr (va_up (va_up (va_up (va_up (va_up (va_up (va_up (va_up (va_up (va_up iv 22 (nI (nx b sz p))) 23 (nI (kd b sz p))) 24 (nI (fr b sz p))) 25 (nI (fg b sz p))) 26 c26) 22 c22_69) 23 c23_69) 24 c24_69) 25 c25_69) 26 c26_69) (va_up (va_up ia 27 g27) 27 g27_69) K R mv) := hI
              have hI := wI_w (ws' := mW E ad kp tr (va_up (va_up (va_up (va_up (va_up iv 22 c22_69) 23 c23_69) 24 c24_69) 25 c25_69) 26 c26_69) (va_up ia 27 g27_69) K R mv) (by rw [(show (va_up (va_up (va_up (va_up (va_up iv 22 c22_69) 23 c23_69) 24 c24_69) 25 c25_69) 26 c26_69) = (va_up (va_up (va_up (va_up (va_up (va_up (va_up (va_up (va_up (va_up iv 22 (nI (nx b sz p))) 23 (nI (kd b sz p))) 24 (nI (fr b sz p))) 25 (nI (fg b sz p))) 26 c26) 22 c22_69) 23 c23_69) 24 c24_69) 25 c25_69) 26 c26_69) from ((Eq.trans (congrArg (fun z => va_up z 26 c26_69) (Eq.trans (congrArg (fun z => va_up z 25 c25_69) (Eq.trans (congrArg (fun z => va_up z 24 c24_69) (Eq.trans (congrArg (fun z => va_up z 23 c23_69) (up_s (by decide) (up_s (by decide) (up_s (by decide) (up_s (by decide) up_0))))) (up_s (by decide) (up_s (by decide) (up_s (by decide) up_0))))) (up_s (by decide) (up_s (by decide) up_0)))) (up_s (by decide) up_0))) up_0)).symm), (show (va_up ia 27 g27_69) = (va_up (va_up ia 27 g27) 27 g27_69) from (up_0).symm)]) hI
              have hI : wI E AR sR H locs (mW E ad kp tr (va_up (va_up (va_up (va_up (va_up iv 22 c22_69) 23 c23_69) 24 c24_69) 25 c25_69) 26 c26_69) (va_up ia 27 g27_69) K R mv) := hI
              have hp : (r_69 = 1 ∧ numE b sz p (Int32.toInt 0) (Int32.toInt ((nI n) - 1)) = .ok (fg b sz p, nx b sz p) ∧ nI (nx b sz (nx b sz p)) = c22_69 ∧ nI (kd b sz (nx b sz p)) = c23_69 ∧ nI (fr b sz (nx b sz p)) = c24_69 ∧ nI (fg b sz (nx b sz p)) = c25_69 ∧ c26 = c26_69 ∧ va_up (g27) 0 (nI (fg b sz p)) = g27_69) ∨ (r_69 = 0 ∧ numE b sz p (Int32.toInt 0) (Int32.toInt ((nI n) - 1)) = .error (fr b sz p) ∧ nI (fr b sz p) = c26_69) := hp
              have h2_69 := hp
              rcases h2_69 with ⟨rfl, f0_69, rfl, rfl, rfl, rfl, rfl, rfl⟩ | ⟨rfl, f0_69, rfl⟩
              · skip
                have f0_69 : numE b sz p 0 (Int32.toInt ((nI n) - 1)) = .ok (fg b sz p, nx b sz p) := f0_69
                have hI : wI E AR sR H locs (mW E ad kp tr (va_up (va_up (va_up (va_up (va_up iv 22 (nI (nx b sz (nx b sz p)))) 23 (nI (kd b sz (nx b sz p)))) 24 (nI (fr b sz (nx b sz p)))) 25 (nI (fg b sz (nx b sz p)))) 26 c26) (va_up ia 27 (va_up (g27) 0 (nI (fg b sz p)))) K R mv) := hI
                rw [hN1] at f0_69
                have hx9 := numE_ok f0_69
                have hp9 : 2 ^ fg b sz p < 2 ^ 7 := Nat.pow_lt_pow_right (by decide) (by omega)
                have hgt := nx_gt (b := b) (by rw [c_30]; decide) hps
                refine lv_if_ne (tgt := 77) hxR hbR dX5_metTold_72 (by decide) (fun _ => ?_) (fun c => absurd c (by decide))
                refine lv_iload_n hxR hbR dX5_metTold_77 rfl (lv_at hl 1 rfl) ?_
                refine lv_iconst (v := 1) hxR hbR dX5_metTold_78 (by decide) ?_
                refine lv_aload_n hxR hbR dX5_metTold_79 rfl (lv_at hl 0 rfl) ?_
                refine r_get hxR hbR hts hown hK hI okX5 (ci := 5) rfl 16 mW_o 27 (by decide) q1505 rfl (v := .ref (ad 27)) rfl dX5_metTold_80 ?_
                refine lv_iconst (v := 0) hxR hbR dX5_metTold_83 (by decide) ?_
                refine r_iald hxR hbR hK hI 29 (n := 2) (J := 0) (f := (va_up (g27) 0 (nI (fg b sz p)))) (v := nI (fg b sz p)) (mW_g27 va_up_s) (by omega) (by decide) va_up_s dX5_metTold_84 ?_
                refine lv_ishl hxR hbR dX5_metTold_85 ?_
                refine lv_as (y := nI (2 ^ (fg b sz p))) (nb_shl (fg b sz p) (by omega)) ?_
                refine lv_ior hxR hbR dX5_metTold_86 ?_
                refine lv_as (y := nI (S ||| (2 ^ (fg b sz p)))) (nb_or S (2 ^ (fg b sz p))) ?_
                refine lv_istore_n (lv' := [(1, .int (nI (S ||| (2 ^ (fg b sz p))))), (0, .ref (ad 45))]) hxR hbR dX5_metTold_87 rfl hl (by decide) rfl (fun ls hl => ?_)
                refine lv_goto (tgt := 25) hxR hbR dX5_metTold_88 (by decide) ?_
                exact ih_25 (S ||| (2 ^ (fg b sz p))) (nx b sz p) (nx b sz (nx b sz p)) (kd b sz (nx b sz p)) (fr b sz (nx b sz p)) (fg b sz (nx b sz p)) c26 (va_up (g27) 0 (nI (fg b sz p))) rfl rfl rfl rfl hna1 (or_lt hS7 hp9) (by rw [metF_3 hps c_30 hnb f0_69]; exact hM) (by omega) _ _ hI _ (lv_sub hl [1, 0] rfl)
              · skip
                have f0_69 : numE b sz p 0 (Int32.toInt ((nI n) - 1)) = .error (fr b sz p) := f0_69
                have hI : wI E AR sR H locs (mW E ad kp tr (va_up (va_up (va_up (va_up (va_up iv 22 c22_69) 23 c23_69) 24 c24_69) 25 c25_69) 26 (nI (fr b sz p))) (va_up ia 27 g27_69) K R mv) := hI
                rw [hN1] at f0_69
                refine lv_if_ne (tgt := 77) hxR hbR dX5_metTold_72 (by decide) (fun c => absurd c (by decide)) (fun _ => ?_)
                refine lv_iconst (v := 0) hxR hbR dX5_metTold_75 (by decide) ?_
                have hI : wI E AR sR H locs (mW E ad kp tr (va_up (va_up (va_up (va_up (va_up iv 22 c22_69) 23 c23_69) 24 c24_69) 25 c25_69) 26 (nI (fr b sz p))) (va_up ia 27 g27_69) K R mv) := hI
                exact hret (c22_69, c23_69, c24_69, c25_69, nI (fr b sz p), g27_69, K) 0 _ _ 0 0 _ _ dX5_metTold_76 hI (by show (∃ S9_e : Nat, ∃ p9_e : Nat, 0 = 1 ∧ metE b sz n a = .ok (S9_e, p9_e) ∧ p9_e ≤ sz ∧ nI (nx b sz p9_e) = c22_69 ∧ nI (kd b sz p9_e) = c23_69 ∧ nI (fr b sz p9_e) = c24_69 ∧ nI (fg b sz p9_e) = c25_69 ∧ meetK K S9_e n = K) ∨ (∃ f_e : Nat, 0 = 0 ∧ metE b sz n a = .error f_e ∧ nI (f_e) = (nI (fr b sz p))); exact Or.inr ⟨_, rfl, (hM.symm.trans (metF_2 hps c_30 hnb f0_69)), rfl⟩) (Nat.le_of_ble_eq_true rfl) (Nat.le_of_ble_eq_true rfl) rfl
    exact lp_25 _ (2 ^ (fg b sz (nx b sz a))) (nx b sz (nx b sz a)) (nx b sz (nx b sz (nx b sz a))) (kd b sz (nx b sz (nx b sz a))) (fr b sz (nx b sz (nx b sz a))) (fg b sz (nx b sz (nx b sz a))) (iv 26) (va_up (ia 27) 0 (nI (fg b sz (nx b sz a)))) rfl rfl rfl rfl hn2 hp8 (metE_2 f0_8).symm (Nat.lt_succ_self _) _ _ hI _ (lv_sub hl [1, 0] rfl)
  · skip
    have f0_8 : numE b sz (nx b sz a) 0 (Int32.toInt ((nI n) - 1)) = .error (fr b sz (nx b sz a)) := f0_8
    have hI : wI E AR sR H locs (mW E ad kp tr (va_up (va_up (va_up (va_up (va_up iv 22 c22_8) 23 c23_8) 24 c24_8) 25 c25_8) 26 (nI (fr b sz (nx b sz a)))) (va_up ia 27 g27_8) K R mv) := hI
    rw [hN1] at f0_8
    refine lv_if_ne (tgt := 16) hxR hbR dX5_metTold_11 (by decide) (fun c => absurd c (by decide)) (fun _ => ?_)
    refine lv_iconst (v := 0) hxR hbR dX5_metTold_14 (by decide) ?_
    have hI : wI E AR sR H locs (mW E ad kp tr (va_up (va_up (va_up (va_up (va_up iv 22 c22_8) 23 c23_8) 24 c24_8) 25 c25_8) 26 (nI (fr b sz (nx b sz a)))) (va_up ia 27 g27_8) K R mv) := hI
    exact hret (c22_8, c23_8, c24_8, c25_8, nI (fr b sz (nx b sz a)), g27_8, K) 0 _ _ 0 0 _ _ dX5_metTold_15 hI (by show (∃ S9_e : Nat, ∃ p9_e : Nat, 0 = 1 ∧ metE b sz n a = .ok (S9_e, p9_e) ∧ p9_e ≤ sz ∧ nI (nx b sz p9_e) = c22_8 ∧ nI (kd b sz p9_e) = c23_8 ∧ nI (fr b sz p9_e) = c24_8 ∧ nI (fg b sz p9_e) = c25_8 ∧ meetK K S9_e n = K) ∨ (∃ f_e : Nat, 0 = 0 ∧ metE b sz n a = .error f_e ∧ nI (f_e) = (nI (fr b sz (nx b sz a)))); exact Or.inr ⟨_, rfl, metE_1 f0_8, rfl⟩) (Nat.le_of_ble_eq_true rfl) (Nat.le_of_ble_eq_true rfl) rfl

theorem c5_statement (l : Launch) (E : En) (ad : Nat → Nat) (kp tr : Option Nat) (iv : Nat → Int32) (ia K : Nat → Nat → Int32) (R : Nat → Nat → Int64) (mv : Nat → Int64) (b : Nat → Nat) (sz : Nat) (a : Nat) (n st mm : Nat) (hsz : iv 8 = nI sz) (hz : sz ≤ 250) (htp : tpOk (ia 7) b sz) (h22 : iv 22 = nI (nx b sz a)) (h23 : iv 23 = nI (kd b sz a)) (h24 : iv 24 = nI (fr b sz a)) (h25 : iv 25 = nI (fg b sz a)) (ha : a ≤ sz) (hn : iv 10 = nI n) (hn7 : n ≤ 7) (hst : iv 14 = nI st) (hmm : iv 15 = nI mm) : CtI l E yX5_statement cX5_statement 2 .boolean 12 0 0 [.ref (ad 45)] (mW E ad kp tr iv ia K R mv) (fun (r : Int32) (u : Int32 × Int32 × Int32 × Int32 × Int32 × Int32 × Int32 × Int32 × (Nat → Int32) × (Nat → Int32) × (Nat → Int32) × (Nat → Nat → Int32)) => (∃ n1_e : Nat, ∃ st1_e : Nat, ∃ mm1_e : Nat, ∃ h1_e : Nat → Int32, ∃ c1_e : Nat → Int32, ∃ K1_e : Nat → Nat → Int32, ∃ p_e : Nat, r = 1 ∧ stm b sz n st mm (ia 11) (ia 12) K a = .ok ((n1_e, st1_e, mm1_e, h1_e, c1_e, K1_e), p_e) ∧ nI (n1_e) = u.1 ∧ nI (st1_e) = u.2.1 ∧ nI (mm1_e) = u.2.2.1 ∧ h1_e = u.2.2.2.2.2.2.2.2.2.1 ∧ c1_e = u.2.2.2.2.2.2.2.2.2.2.1 ∧ K1_e = u.2.2.2.2.2.2.2.2.2.2.2 ∧ nI (nx b sz p_e) = u.2.2.2.1 ∧ nI (kd b sz p_e) = u.2.2.2.2.1 ∧ nI (fr b sz p_e) = u.2.2.2.2.2.1 ∧ nI (fg b sz p_e) = u.2.2.2.2.2.2.1) ∨ (∃ f_e : Nat, r = 0 ∧ stm b sz n st mm (ia 11) (ia 12) K a = .error f_e ∧ nI (f_e) = u.2.2.2.2.2.2.2.1)) (fun (u : Int32 × Int32 × Int32 × Int32 × Int32 × Int32 × Int32 × Int32 × (Nat → Int32) × (Nat → Int32) × (Nat → Int32) × (Nat → Nat → Int32)) => mW E ad kp tr (va_up (va_up (va_up (va_up (va_up (va_up (va_up (va_up iv 10 u.1) 14 u.2.1) 15 u.2.2.1) 22 u.2.2.2.1) 23 u.2.2.2.2.1) 24 u.2.2.2.2.2.1) 25 u.2.2.2.2.2.2.1) 26 u.2.2.2.2.2.2.2.1) (va_up (va_up (va_up ia 11 u.2.2.2.2.2.2.2.2.2.1) 12 u.2.2.2.2.2.2.2.2.2.2.1) 27 u.2.2.2.2.2.2.2.2.1) u.2.2.2.2.2.2.2.2.2.2.2 R mv) := by
  have hfa := fr_le (b := b) ha
  have hna := nx_le (b := b) ha
  have hfn := nx_ge (b := b) (sz := sz) (a := a)
  have hka := kd_lt (b := b) (sz := sz) (a := a)
  have hga := fg_le htp.lt ha
  have hna1 := nx_le (b := b) hna
  have hna2 := nx_le (b := b) hna1
  refine CtI.of (by decide +kernel) (Nat.le_of_ble_eq_true rfl) ?_
  intro pR eR sR mR aR bR tR cR AR ls QR hxR hbR hmlR hts hown hlk hnm hA hK hI hl hret
  have hl : lv_has ls 2 [(0, .ref (ad 45))] := hl
  have cut_59 : (¬ (isW b sz a 1 = true ∧ n < 7)) → ∀ (H : Heap) (locs : List Loc), wI E AR sR H locs (mW E ad kp tr iv ia K R mv) → ∀ ls : Array Slot, lv_has ls 2 [(0, .ref (ad 45))] → W pR l eR (rmF 12 0 0) sR mR aR bR tR cR H locs 0 0 QR (F0 mR 59 ls []) := by
    intro  hw1 H locs hI ls hl
    refine lv_aload_n hxR hbR dX5_statement_59 rfl (lv_at hl 0 rfl) ?_
    refine va_ldcS hxR hbR hown (hK.2.2.2.1 ("ThreeStrangersModel", 218, "know", 2) (by decide)) dX5_statement_60 ?_
    refine kVI (n := 1) (As := [.ref (E.1.2.1 2)]) (rest := []) (fun w => w) hxR hbR hmlR hts hown hK hA hl.1 isCtx.id hI (c5_isWord l E ad kp tr iv ia K R mv b sz a 2 hsz (by first | omega | with_reducible assumption) (tpOk.of rfl htp) h22 h23 h24 h25 (by first | omega | with_reducible assumption) (by first | omega | with_reducible assumption)) (lw_V q1792 q1794 qs55 q86 q1795) ⟨rfl, by decide +kernel⟩ 16 5 rfl rfl mW_o rfl (Nat.le_of_ble_eq_true rfl) (Nat.le_of_ble_eq_true rfl) ⟨Nat.le_of_ble_eq_true rfl, Nat.le_of_ble_eq_true rfl⟩ (Nat.le_of_ble_eq_true rfl) dX5_statement_62 (fun r_62 u H locs hp hI hz => ?_)
    have hI : wI E AR sR H locs (mW E ad kp tr iv ia K R mv) := hI
    have hp : r_62 = b2i (isW b sz a 2) := hp
    have hr_62 := hp
    rcases b2i_cases hr_62 with ⟨c_62, rfl⟩ | ⟨c_62, rfl⟩
    · skip
      have c_62 : isW b sz a 2 = true := c_62
      refine lv_if_eq (tgt := 73) hxR hbR dX5_statement_65 (by decide) (fun c => absurd c (by decide)) (fun _ => ?_)
      refine lv_aload_n hxR hbR dX5_statement_68 rfl (lv_at hl 0 rfl) ?_
      refine kVI (n := 0) (As := []) (rest := []) (fun w => w) hxR hbR hmlR hts hown hK hA hl.1 isCtx.id hI (c5_knowTold l E ad kp tr iv ia K R mv b sz a n hsz (by first | omega | with_reducible assumption) (tpOk.of rfl htp) h22 h23 h24 h25 (by first | omega | with_reducible assumption) hn (by first | omega | with_reducible assumption)) (lw_V q1828 q1830 qs59 q86 q1831) ⟨rfl, by decide +kernel⟩ 16 5 rfl rfl mW_o rfl (Nat.le_of_ble_eq_true rfl) (Nat.le_of_ble_eq_true rfl) ⟨Nat.le_of_ble_eq_true rfl, Nat.le_of_ble_eq_true rfl⟩ (Nat.le_of_ble_eq_true rfl) dX5_statement_69 (fun r_69 u H locs hp hI hz => ?_)
      obtain ⟨c22_69, c23_69, c24_69, c25_69, c26_69, g27_69, K2_69⟩ := u
      have hI : wI E AR sR H locs (mW E ad kp tr (va_up (va_up (va_up (va_up (va_up iv 22 c22_69) 23 c23_69) 24 c24_69) 25 c25_69) 26 c26_69) (va_up ia 27 g27_69) K2_69 R mv) := hI
      have hp : (∃ K9_e : Nat → Nat → Int32, ∃ p_e : Nat, r_69 = 1 ∧ knoE b sz n K a = .ok (K9_e, p_e) ∧ p_e ≤ sz ∧ nI (nx b sz p_e) = c22_69 ∧ nI (kd b sz p_e) = c23_69 ∧ nI (fr b sz p_e) = c24_69 ∧ nI (fg b sz p_e) = c25_69 ∧ K9_e = K2_69) ∨ (∃ f_e : Nat, r_69 = 0 ∧ knoE b sz n K a = .error f_e ∧ nI (f_e) = c26_69) := hp
      have h2_69 := hp
      rcases h2_69 with ⟨K9_69, p_69, rfl, f0_69, f1_69, rfl, rfl, rfl, rfl, rfl⟩ | ⟨f_69, rfl, f0_69, rfl⟩
      · skip
        have f0_69 : knoE b sz n K a = .ok (K9_69, p_69) := f0_69
        have f1_69 : p_69 ≤ sz := f1_69
        have hI : wI E AR sR H locs (mW E ad kp tr (va_up (va_up (va_up (va_up (va_up iv 22 (nI (nx b sz p_69))) 23 (nI (kd b sz p_69))) 24 (nI (fr b sz p_69))) 25 (nI (fg b sz p_69))) 26 c26_69) (va_up ia 27 g27_69) K9_69 R mv) := hI
        have hI := wI_w (ws' := mW E ad kp tr (va_up (va_up (va_up (va_up (va_up (va_up (va_up (va_up iv 10 (nI n)) 14 (nI st)) 15 (nI mm)) 22 (nI (nx b sz p_69))) 23 (nI (kd b sz p_69))) 24 (nI (fr b sz p_69))) 25 (nI (fg b sz p_69))) 26 c26_69) (va_up (va_up (va_up ia 11 (ia 11)) 12 (ia 12)) 27 g27_69) K9_69 R mv) (by rw [va_up_id (f := iv) (k := 10) (v := (nI n)) hn, va_up_id (f := iv) (k := 14) (v := (nI st)) hst, va_up_id (f := iv) (k := 15) (v := (nI mm)) hmm, va_up_id (f := ia) (k := 11) (v := (ia 11)) rfl, va_up_id (f := ia) (k := 12) (v := (ia 12)) rfl]; try rfl) hI
        exact hret (nI n, nI st, nI mm, nI (nx b sz p_69), nI (kd b sz p_69), nI (fr b sz p_69), nI (fg b sz p_69), c26_69, g27_69, ia 11, ia 12, K9_69) 1 _ _ 0 0 _ _ dX5_statement_72 hI (by show (∃ n1_e : Nat, ∃ st1_e : Nat, ∃ mm1_e : Nat, ∃ h1_e : Nat → Int32, ∃ c1_e : Nat → Int32, ∃ K1_e : Nat → Nat → Int32, ∃ p_e : Nat, 1 = 1 ∧ stm b sz n st mm (ia 11) (ia 12) K a = .ok ((n1_e, st1_e, mm1_e, h1_e, c1_e, K1_e), p_e) ∧ nI (n1_e) = (nI n) ∧ nI (st1_e) = (nI st) ∧ nI (mm1_e) = (nI mm) ∧ h1_e = (ia 11) ∧ c1_e = (ia 12) ∧ K1_e = K9_69 ∧ nI (nx b sz p_e) = (nI (nx b sz p_69)) ∧ nI (kd b sz p_e) = (nI (kd b sz p_69)) ∧ nI (fr b sz p_e) = (nI (fr b sz p_69)) ∧ nI (fg b sz p_e) = (nI (fg b sz p_69))) ∨ (∃ f_e : Nat, 1 = 0 ∧ stm b sz n st mm (ia 11) (ia 12) K a = .error f_e ∧ nI (f_e) = c26_69); exact Or.inl ⟨_, _, _, _, _, _, _, rfl, (by unfold stm; rw [if_neg hw1, if_pos c_62, f0_69]), rfl, rfl, rfl, rfl, rfl, rfl, rfl, rfl, rfl, rfl⟩) (Nat.le_of_ble_eq_true rfl) (Nat.le_of_ble_eq_true rfl) rfl
      · skip
        have f0_69 : knoE b sz n K a = .error f_69 := f0_69
        have hI : wI E AR sR H locs (mW E ad kp tr (va_up (va_up (va_up (va_up (va_up iv 22 c22_69) 23 c23_69) 24 c24_69) 25 c25_69) 26 (nI f_69)) (va_up ia 27 g27_69) K2_69 R mv) := hI
        have hI := wI_w (ws' := mW E ad kp tr (va_up (va_up (va_up (va_up (va_up (va_up (va_up (va_up iv 10 (nI n)) 14 (nI st)) 15 (nI mm)) 22 c22_69) 23 c23_69) 24 c24_69) 25 c25_69) 26 (nI f_69)) (va_up (va_up (va_up ia 11 (ia 11)) 12 (ia 12)) 27 g27_69) K2_69 R mv) (by rw [va_up_id (f := iv) (k := 10) (v := (nI n)) hn, va_up_id (f := iv) (k := 14) (v := (nI st)) hst, va_up_id (f := iv) (k := 15) (v := (nI mm)) hmm, va_up_id (f := ia) (k := 11) (v := (ia 11)) rfl, va_up_id (f := ia) (k := 12) (v := (ia 12)) rfl]; try rfl) hI
        exact hret (nI n, nI st, nI mm, c22_69, c23_69, c24_69, c25_69, nI f_69, g27_69, ia 11, ia 12, K2_69) 0 _ _ 0 0 _ _ dX5_statement_72 hI (by show (∃ n1_e : Nat, ∃ st1_e : Nat, ∃ mm1_e : Nat, ∃ h1_e : Nat → Int32, ∃ c1_e : Nat → Int32, ∃ K1_e : Nat → Nat → Int32, ∃ p_e : Nat, 0 = 1 ∧ stm b sz n st mm (ia 11) (ia 12) K a = .ok ((n1_e, st1_e, mm1_e, h1_e, c1_e, K1_e), p_e) ∧ nI (n1_e) = (nI n) ∧ nI (st1_e) = (nI st) ∧ nI (mm1_e) = (nI mm) ∧ h1_e = (ia 11) ∧ c1_e = (ia 12) ∧ K1_e = K2_69 ∧ nI (nx b sz p_e) = c22_69 ∧ nI (kd b sz p_e) = c23_69 ∧ nI (fr b sz p_e) = c24_69 ∧ nI (fg b sz p_e) = c25_69) ∨ (∃ f_e : Nat, 0 = 0 ∧ stm b sz n st mm (ia 11) (ia 12) K a = .error f_e ∧ nI (f_e) = (nI f_69)); exact Or.inr ⟨_, rfl, (by unfold stm; rw [if_neg hw1, if_pos c_62, f0_69]), rfl⟩) (Nat.le_of_ble_eq_true rfl) (Nat.le_of_ble_eq_true rfl) rfl
    · skip
      have c_62 : isW b sz a 2 = false := c_62
      refine lv_if_eq (tgt := 73) hxR hbR dX5_statement_65 (by decide) (fun _ => ?_) (fun c => absurd c (by decide))
      refine lv_aload_n hxR hbR dX5_statement_73 rfl (lv_at hl 0 rfl) ?_
      refine va_ldcS hxR hbR hown (hK.2.2.2.1 ("ThreeStrangersModel", 223, "strange", 3) (by decide)) dX5_statement_74 ?_
      refine kVI (n := 1) (As := [.ref (E.1.2.1 3)]) (rest := []) (fun w => w) hxR hbR hmlR hts hown hK hA hl.1 isCtx.id hI (c5_isWord l E ad kp tr iv ia K R mv b sz a 3 hsz (by first | omega | with_reducible assumption) (tpOk.of rfl htp) h22 h23 h24 h25 (by first | omega | with_reducible assumption) (by first | omega | with_reducible assumption)) (lw_V q1792 q1794 qs55 q86 q1795) ⟨rfl, by decide +kernel⟩ 16 5 rfl rfl mW_o rfl (Nat.le_of_ble_eq_true rfl) (Nat.le_of_ble_eq_true rfl) ⟨Nat.le_of_ble_eq_true rfl, Nat.le_of_ble_eq_true rfl⟩ (Nat.le_of_ble_eq_true rfl) dX5_statement_76 (fun r_76 u H locs hp hI hz => ?_)
      have hI : wI E AR sR H locs (mW E ad kp tr iv ia K R mv) := hI
      have hp : r_76 = b2i (isW b sz a 3) := hp
      have hr_76 := hp
      rcases b2i_cases hr_76 with ⟨c_76, rfl⟩ | ⟨c_76, rfl⟩
      · skip
        have c_76 : isW b sz a 3 = true := c_76
        refine lv_if_eq (tgt := 110) hxR hbR dX5_statement_79 (by decide) (fun c => absurd c (by decide)) (fun _ => ?_)
        refine lv_aload_n hxR hbR dX5_statement_82 rfl (lv_at hl 0 rfl) ?_
        refine kVI (n := 0) (As := []) (rest := []) (fun w => w) hxR hbR hmlR hts hown hK hA hl.1 isCtx.id hI (c5_twoTold l E ad kp tr iv ia K R mv b sz a n hsz (by first | omega | with_reducible assumption) (tpOk.of rfl htp) h22 h23 h24 h25 (by first | omega | with_reducible assumption) hn (by first | omega | with_reducible assumption)) (lw_V q1832 q1834 qs60 q86 q1835) ⟨rfl, by decide +kernel⟩ 16 5 rfl rfl mW_o rfl (Nat.le_of_ble_eq_true rfl) (Nat.le_of_ble_eq_true rfl) ⟨Nat.le_of_ble_eq_true rfl, Nat.le_of_ble_eq_true rfl⟩ (Nat.le_of_ble_eq_true rfl) dX5_statement_83 (fun r_83 u H locs hp hI hz => ?_)
        obtain ⟨c22_83, c23_83, c24_83, c25_83, c26_83, g27_83⟩ := u
        have hI : wI E AR sR H locs (mW E ad kp tr (va_up (va_up (va_up (va_up (va_up iv 22 c22_83) 23 c23_83) 24 c24_83) 25 c25_83) 26 c26_83) (va_up ia 27 g27_83) K R mv) := hI
        have hp : (∃ x_e : Nat, ∃ y_e : Nat, ∃ p_e : Nat, r_83 = 1 ∧ twoE b sz n a = .ok (x_e, y_e, p_e) ∧ p_e ≤ sz ∧ (x_e < n ∧ y_e < n) ∧ nI (nx b sz p_e) = c22_83 ∧ nI (kd b sz p_e) = c23_83 ∧ nI (fr b sz p_e) = c24_83 ∧ nI (fg b sz p_e) = c25_83 ∧ va_up (va_up (ia 27) 0 (nI x_e)) 1 (nI y_e) = g27_83) ∨ (∃ f_e : Nat, r_83 = 0 ∧ twoE b sz n a = .error f_e ∧ nI (f_e) = c26_83) := hp
        have h2_83 := hp
        rcases h2_83 with ⟨x_83, y_83, p_83, rfl, f0_83, f1_83, f2_83, rfl, rfl, rfl, rfl, rfl⟩ | ⟨f_83, rfl, f0_83, rfl⟩
        · skip
          have f0_83 : twoE b sz n a = .ok (x_83, y_83, p_83) := f0_83
          have f1_83 : p_83 ≤ sz := f1_83
          have f2_83 : x_83 < n ∧ y_83 < n := f2_83
          have hI : wI E AR sR H locs (mW E ad kp tr (va_up (va_up (va_up (va_up (va_up iv 22 (nI (nx b sz p_83))) 23 (nI (kd b sz p_83))) 24 (nI (fr b sz p_83))) 25 (nI (fg b sz p_83))) 26 c26_83) (va_up ia 27 (va_up (va_up (ia 27) 0 (nI x_83)) 1 (nI y_83))) K R mv) := hI
          have hxy := f2_83
          refine lv_istore_n (lv' := [(1, .int 1), (0, .ref (ad 45))]) hxR hbR dX5_statement_86 rfl hl (by decide) rfl (fun ls hl => ?_)
          refine lv_iload_n hxR hbR dX5_statement_87 rfl (lv_at hl 0 rfl) ?_
          refine lv_if_eq (tgt := 108) hxR hbR dX5_statement_88 (by decide) (fun c => absurd c (by decide)) (fun _ => ?_)
          refine lv_aload_n hxR hbR dX5_statement_91 rfl (lv_at hl 1 rfl) ?_
          refine lv_aload_n hxR hbR dX5_statement_92 rfl (lv_at hl 1 rfl) ?_
          refine r_get hxR hbR hts hown hK hI okX5 (ci := 5) rfl 16 mW_o 27 (by decide) q1505 rfl (v := .ref (ad 27)) rfl dX5_statement_93 ?_
          refine lv_iconst (v := 0) hxR hbR dX5_statement_96 (by decide) ?_
          refine r_iald hxR hbR hK hI 29 (n := 2) (J := 0) (f := (va_up (va_up (ia 27) 0 (nI x_83)) 1 (nI y_83))) (v := nI x_83) (mW_g27 va_up_s) (by omega) (by decide) (up_n (by decide) va_up_s) dX5_statement_97 ?_
          refine lv_aload_n hxR hbR dX5_statement_98 rfl (lv_at hl 1 rfl) ?_
          refine r_get hxR hbR hts hown hK hI okX5 (ci := 5) rfl 16 mW_o 27 (by decide) q1505 rfl (v := .ref (ad 27)) rfl dX5_statement_99 ?_
          refine lv_iconst (v := 1) hxR hbR dX5_statement_102 (by decide) ?_
          refine r_iald hxR hbR hK hI 29 (n := 2) (J := 1) (f := (va_up (va_up (ia 27) 0 (nI x_83)) 1 (nI y_83))) (v := nI y_83) (mW_g27 va_up_s) (by omega) (by decide) va_up_s dX5_statement_103 ?_
          refine lv_iconst (v := (-1)) hxR hbR dX5_statement_104 (by decide) ?_
          refine kVV (n := 3) (As := [.int (nI x_83), .int (nI y_83), .int (-1)]) (rest := []) (fun w => w) hxR hbR hmlR hts hown hK hA hl.1 isCtx.id hI (c5_knows l E ad kp tr (va_up (va_up (va_up (va_up (va_up iv 22 (nI (nx b sz p_83))) 23 (nI (kd b sz p_83))) 24 (nI (fr b sz p_83))) 25 (nI (fg b sz p_83))) 26 c26_83) (va_up ia 27 (va_up (va_up (ia 27) 0 (nI x_83)) 1 (nI y_83))) K R mv x_83 y_83 (-1) (by first | omega | with_reducible assumption) (by first | omega | with_reducible assumption)) (lw_V q1737 q1739 qs49 q86 q1740) ⟨rfl, by decide +kernel⟩ 16 5 rfl rfl mW_o rfl (Nat.le_of_ble_eq_true rfl) (Nat.le_of_ble_eq_true rfl) ⟨Nat.le_of_ble_eq_true rfl, Nat.le_of_ble_eq_true rfl⟩ (Nat.le_of_ble_eq_true rfl) dX5_statement_105 (fun u H locs hp hI hz => ?_)
          have hI : wI E AR sR H locs (mW E ad kp tr (va_up (va_up (va_up (va_up (va_up iv 22 (nI (nx b sz p_83))) 23 (nI (kd b sz p_83))) 24 (nI (fr b sz p_83))) 25 (nI (fg b sz p_83))) 26 c26_83) (va_up ia 27 (va_up (va_up (ia 27) 0 (nI x_83)) 1 (nI y_83))) (knF K x_83 y_83 (-1)) R mv) := hI
          refine lv_iload_n hxR hbR dX5_statement_108 rfl (lv_at hl 0 rfl) ?_
          have hI := wI_w (ws' := mW E ad kp tr (va_up (va_up (va_up (va_up (va_up (va_up (va_up (va_up iv 10 (nI n)) 14 (nI st)) 15 (nI mm)) 22 (nI (nx b sz p_83))) 23 (nI (kd b sz p_83))) 24 (nI (fr b sz p_83))) 25 (nI (fg b sz p_83))) 26 c26_83) (va_up (va_up (va_up ia 11 (ia 11)) 12 (ia 12)) 27 (va_up (va_up (ia 27) 0 (nI x_83)) 1 (nI y_83))) (knF K x_83 y_83 (-1)) R mv) (by rw [va_up_id (f := iv) (k := 10) (v := (nI n)) hn, va_up_id (f := iv) (k := 14) (v := (nI st)) hst, va_up_id (f := iv) (k := 15) (v := (nI mm)) hmm, va_up_id (f := ia) (k := 11) (v := (ia 11)) rfl, va_up_id (f := ia) (k := 12) (v := (ia 12)) rfl]; try rfl) hI
          exact hret (nI n, nI st, nI mm, nI (nx b sz p_83), nI (kd b sz p_83), nI (fr b sz p_83), nI (fg b sz p_83), c26_83, (va_up (va_up (ia 27) 0 (nI x_83)) 1 (nI y_83)), ia 11, ia 12, knF K x_83 y_83 (-1)) 1 _ _ 0 0 _ _ dX5_statement_109 hI (by show (∃ n1_e : Nat, ∃ st1_e : Nat, ∃ mm1_e : Nat, ∃ h1_e : Nat → Int32, ∃ c1_e : Nat → Int32, ∃ K1_e : Nat → Nat → Int32, ∃ p_e : Nat, 1 = 1 ∧ stm b sz n st mm (ia 11) (ia 12) K a = .ok ((n1_e, st1_e, mm1_e, h1_e, c1_e, K1_e), p_e) ∧ nI (n1_e) = (nI n) ∧ nI (st1_e) = (nI st) ∧ nI (mm1_e) = (nI mm) ∧ h1_e = (ia 11) ∧ c1_e = (ia 12) ∧ K1_e = (knF K x_83 y_83 (-1)) ∧ nI (nx b sz p_e) = (nI (nx b sz p_83)) ∧ nI (kd b sz p_e) = (nI (kd b sz p_83)) ∧ nI (fr b sz p_e) = (nI (fr b sz p_83)) ∧ nI (fg b sz p_e) = (nI (fg b sz p_83))) ∨ (∃ f_e : Nat, 1 = 0 ∧ stm b sz n st mm (ia 11) (ia 12) K a = .error f_e ∧ nI (f_e) = c26_83); exact Or.inl ⟨_, _, _, _, _, _, _, rfl, (by unfold stm; rw [if_neg hw1, if_neg (show ¬ isW b sz a 2 = true from by rw [c_62]; decide), if_pos c_76, f0_83]), rfl, rfl, rfl, rfl, rfl, rfl, rfl, rfl, rfl, rfl⟩) (Nat.le_of_ble_eq_true rfl) (Nat.le_of_ble_eq_true rfl) rfl
        · skip
          have f0_83 : twoE b sz n a = .error f_83 := f0_83
          have hI : wI E AR sR H locs (mW E ad kp tr (va_up (va_up (va_up (va_up (va_up iv 22 c22_83) 23 c23_83) 24 c24_83) 25 c25_83) 26 (nI f_83)) (va_up ia 27 g27_83) K R mv) := hI
          refine lv_istore_n (lv' := [(1, .int 0), (0, .ref (ad 45))]) hxR hbR dX5_statement_86 rfl hl (by decide) rfl (fun ls hl => ?_)
          refine lv_iload_n hxR hbR dX5_statement_87 rfl (lv_at hl 0 rfl) ?_
          refine lv_if_eq (tgt := 108) hxR hbR dX5_statement_88 (by decide) (fun _ => ?_) (fun c => absurd c (by decide))
          refine lv_iload_n hxR hbR dX5_statement_108 rfl (lv_at hl 0 rfl) ?_
          have hI := wI_w (ws' := mW E ad kp tr (va_up (va_up (va_up (va_up (va_up (va_up (va_up (va_up iv 10 (nI n)) 14 (nI st)) 15 (nI mm)) 22 c22_83) 23 c23_83) 24 c24_83) 25 c25_83) 26 (nI f_83)) (va_up (va_up (va_up ia 11 (ia 11)) 12 (ia 12)) 27 g27_83) K R mv) (by rw [va_up_id (f := iv) (k := 10) (v := (nI n)) hn, va_up_id (f := iv) (k := 14) (v := (nI st)) hst, va_up_id (f := iv) (k := 15) (v := (nI mm)) hmm, va_up_id (f := ia) (k := 11) (v := (ia 11)) rfl, va_up_id (f := ia) (k := 12) (v := (ia 12)) rfl]; try rfl) hI
          exact hret (nI n, nI st, nI mm, c22_83, c23_83, c24_83, c25_83, nI f_83, g27_83, ia 11, ia 12, K) 0 _ _ 0 0 _ _ dX5_statement_109 hI (by show (∃ n1_e : Nat, ∃ st1_e : Nat, ∃ mm1_e : Nat, ∃ h1_e : Nat → Int32, ∃ c1_e : Nat → Int32, ∃ K1_e : Nat → Nat → Int32, ∃ p_e : Nat, 0 = 1 ∧ stm b sz n st mm (ia 11) (ia 12) K a = .ok ((n1_e, st1_e, mm1_e, h1_e, c1_e, K1_e), p_e) ∧ nI (n1_e) = (nI n) ∧ nI (st1_e) = (nI st) ∧ nI (mm1_e) = (nI mm) ∧ h1_e = (ia 11) ∧ c1_e = (ia 12) ∧ K1_e = K ∧ nI (nx b sz p_e) = c22_83 ∧ nI (kd b sz p_e) = c23_83 ∧ nI (fr b sz p_e) = c24_83 ∧ nI (fg b sz p_e) = c25_83) ∨ (∃ f_e : Nat, 0 = 0 ∧ stm b sz n st mm (ia 11) (ia 12) K a = .error f_e ∧ nI (f_e) = (nI f_83)); exact Or.inr ⟨_, rfl, (by unfold stm; rw [if_neg hw1, if_neg (show ¬ isW b sz a 2 = true from by rw [c_62]; decide), if_pos c_76, f0_83]), rfl⟩) (Nat.le_of_ble_eq_true rfl) (Nat.le_of_ble_eq_true rfl) rfl
      · skip
        have c_76 : isW b sz a 3 = false := c_76
        refine lv_if_eq (tgt := 110) hxR hbR dX5_statement_79 (by decide) (fun _ => ?_) (fun c => absurd c (by decide))
        refine lv_aload_n hxR hbR dX5_statement_110 rfl (lv_at hl 0 rfl) ?_
        refine va_ldcS hxR hbR hown (hK.2.2.2.1 ("ThreeStrangersModel", 225, "seats", 4) (by decide)) dX5_statement_111 ?_
        refine kVI (n := 1) (As := [.ref (E.1.2.1 4)]) (rest := []) (fun w => w) hxR hbR hmlR hts hown hK hA hl.1 isCtx.id hI (c5_isWord l E ad kp tr iv ia K R mv b sz a 4 hsz (by first | omega | with_reducible assumption) (tpOk.of rfl htp) h22 h23 h24 h25 (by first | omega | with_reducible assumption) (by first | omega | with_reducible assumption)) (lw_V q1792 q1794 qs55 q86 q1795) ⟨rfl, by decide +kernel⟩ 16 5 rfl rfl mW_o rfl (Nat.le_of_ble_eq_true rfl) (Nat.le_of_ble_eq_true rfl) ⟨Nat.le_of_ble_eq_true rfl, Nat.le_of_ble_eq_true rfl⟩ (Nat.le_of_ble_eq_true rfl) dX5_statement_113 (fun r_113 u H locs hp hI hz => ?_)
        have hI : wI E AR sR H locs (mW E ad kp tr iv ia K R mv) := hI
        have hp : r_113 = b2i (isW b sz a 4) := hp
        have hr_113 := hp
        rcases b2i_cases hr_113 with ⟨c_113, rfl⟩ | ⟨c_113, rfl⟩
        · skip
          have c_113 : isW b sz a 4 = true := c_113
          refine lv_if_eq (tgt := 149) hxR hbR dX5_statement_116 (by decide) (fun c => absurd c (by decide)) (fun _ => ?_)
          refine lv_aload_n hxR hbR dX5_statement_119 rfl (lv_at hl 0 rfl) ?_
          refine lv_iconst (v := 2) hxR hbR dX5_statement_120 (by decide) ?_
          refine lv_iconst (v := 4) hxR hbR dX5_statement_121 (by decide) ?_
          refine kVI (n := 2) (As := [.int 2, .int 4]) (rest := []) (fun w => w) hxR hbR hmlR hts hown hK hA hl.1 isCtx.id hI (c5_tells l E ad kp tr iv ia K R mv b sz a 2 4 hsz (by first | omega | with_reducible assumption) (tpOk.of rfl htp) h22 h23 h24 h25 (by first | omega | with_reducible assumption)) (lw_V q1815 q1817 qs56 q86 q1818) ⟨rfl, by decide +kernel⟩ 16 5 rfl rfl mW_o rfl (Nat.le_of_ble_eq_true rfl) (Nat.le_of_ble_eq_true rfl) ⟨Nat.le_of_ble_eq_true rfl, Nat.le_of_ble_eq_true rfl⟩ (Nat.le_of_ble_eq_true rfl) dX5_statement_122 (fun r_122 u H locs hp hI hz => ?_)
          obtain ⟨c22_122, c23_122, c24_122, c25_122, c26_122, g27_122⟩ := u
          have hI : wI E AR sR H locs (mW E ad kp tr (va_up (va_up (va_up (va_up (va_up iv 22 c22_122) 23 c23_122) 24 c24_122) 25 c25_122) 26 c26_122) (va_up ia 27 g27_122) K R mv) := hI
          have hp : (r_122 = 1 ∧ numE b sz (nx b sz a) (Int32.toInt 2) (Int32.toInt 4) = .ok (fg b sz (nx b sz a), nx b sz (nx b sz a)) ∧ nI (nx b sz (nx b sz (nx b sz a))) = c22_122 ∧ nI (kd b sz (nx b sz (nx b sz a))) = c23_122 ∧ nI (fr b sz (nx b sz (nx b sz a))) = c24_122 ∧ nI (fg b sz (nx b sz (nx b sz a))) = c25_122 ∧ iv 26 = c26_122 ∧ va_up (ia 27) 0 (nI (fg b sz (nx b sz a))) = g27_122) ∨ (r_122 = 0 ∧ numE b sz (nx b sz a) (Int32.toInt 2) (Int32.toInt 4) = .error (fr b sz (nx b sz a)) ∧ nI (fr b sz (nx b sz a)) = c26_122) := hp
          have h2_122 := hp
          rcases h2_122 with ⟨rfl, f0_122, rfl, rfl, rfl, rfl, rfl, rfl⟩ | ⟨rfl, f0_122, rfl⟩
          · skip
            have f0_122 : numE b sz (nx b sz a) 2 4 = .ok (fg b sz (nx b sz a), nx b sz (nx b sz a)) := f0_122
            have hI : wI E AR sR H locs (mW E ad kp tr (va_up (va_up (va_up (va_up (va_up iv 22 (nI (nx b sz (nx b sz (nx b sz a))))) 23 (nI (kd b sz (nx b sz (nx b sz a))))) 24 (nI (fr b sz (nx b sz (nx b sz a))))) 25 (nI (fg b sz (nx b sz (nx b sz a))))) 26 (iv 26)) (va_up ia 27 (va_up (ia 27) 0 (nI (fg b sz (nx b sz a))))) K R mv) := hI
            refine lv_istore_n (lv' := [(1, .int 1), (0, .ref (ad 45))]) hxR hbR dX5_statement_125 rfl hl (by decide) rfl (fun ls hl => ?_)
            refine lv_aload_n hxR hbR dX5_statement_126 rfl (lv_at hl 1 rfl) ?_
            refine lv_iload_n hxR hbR dX5_statement_127 rfl (lv_at hl 0 rfl) ?_
            refine lv_if_eq (tgt := 140) hxR hbR dX5_statement_128 (by decide) (fun c => absurd c (by decide)) (fun _ => ?_)
            refine lv_aload_n hxR hbR dX5_statement_131 rfl (lv_at hl 1 rfl) ?_
            refine r_get hxR hbR hts hown hK hI okX5 (ci := 5) rfl 16 mW_o 27 (by decide) q1505 rfl (v := .ref (ad 27)) rfl dX5_statement_132 ?_
            refine lv_iconst (v := 0) hxR hbR dX5_statement_135 (by decide) ?_
            refine r_iald hxR hbR hK hI 29 (n := 2) (J := 0) (f := (va_up (ia 27) 0 (nI (fg b sz (nx b sz a))))) (v := nI (fg b sz (nx b sz a))) (mW_g27 va_up_s) (by omega) (by decide) va_up_s dX5_statement_136 ?_
            refine lv_goto (tgt := 144) hxR hbR dX5_statement_137 (by decide) ?_
            refine r_put (v := .int (nI (fg b sz (nx b sz a)))) (ws1 := mW E ad kp tr (va_up (va_up (va_up (va_up (va_up (va_up iv 14 (nI (fg b sz (nx b sz a)))) 22 (nI (nx b sz (nx b sz (nx b sz a))))) 23 (nI (kd b sz (nx b sz (nx b sz a))))) 24 (nI (fr b sz (nx b sz (nx b sz a))))) 25 (nI (fg b sz (nx b sz (nx b sz a))))) 26 (iv 26)) (va_up ia 27 (va_up (ia 27) 0 (nI (fg b sz (nx b sz a))))) K R mv) hxR hbR hts hown hK hI okX5 (ci := 5) rfl 16 mW_o 14 (by decide) q1492 rfl rfl rfl rfl (Nat.le_of_ble_eq_true rfl) (Eq.trans mW_i14 (mW_c1 (up_s (by decide) (up_s (by decide) (up_s (by decide) (up_s (by decide) (up_s (by decide) rfl))))))) dX5_statement_144 (fun H locs hI => ?_)
            refine lv_iload_n hxR hbR dX5_statement_147 rfl (lv_at hl 0 rfl) ?_
            have hI := wI_w (ws' := mW E ad kp tr (va_up (va_up (va_up (va_up (va_up (va_up (va_up (va_up iv 10 (nI n)) 14 (nI (fg b sz (nx b sz a)))) 15 (nI mm)) 22 (nI (nx b sz (nx b sz (nx b sz a))))) 23 (nI (kd b sz (nx b sz (nx b sz a))))) 24 (nI (fr b sz (nx b sz (nx b sz a))))) 25 (nI (fg b sz (nx b sz (nx b sz a))))) 26 (iv 26)) (va_up (va_up (va_up ia 11 (ia 11)) 12 (ia 12)) 27 (va_up (ia 27) 0 (nI (fg b sz (nx b sz a))))) K R mv) (by rw [va_up_id (f := iv) (k := 10) (v := (nI n)) hn, va_up_id (f := (va_up iv 14 (nI (fg b sz (nx b sz a))))) (k := 15) (v := (nI mm)) (up_n (by decide) hmm), va_up_id (f := ia) (k := 11) (v := (ia 11)) rfl, va_up_id (f := ia) (k := 12) (v := (ia 12)) rfl]; try rfl) hI
            exact hret (nI n, nI (fg b sz (nx b sz a)), nI mm, nI (nx b sz (nx b sz (nx b sz a))), nI (kd b sz (nx b sz (nx b sz a))), nI (fr b sz (nx b sz (nx b sz a))), nI (fg b sz (nx b sz (nx b sz a))), (iv 26), (va_up (ia 27) 0 (nI (fg b sz (nx b sz a)))), ia 11, ia 12, K) 1 _ _ 0 0 _ _ dX5_statement_148 hI (by show (∃ n1_e : Nat, ∃ st1_e : Nat, ∃ mm1_e : Nat, ∃ h1_e : Nat → Int32, ∃ c1_e : Nat → Int32, ∃ K1_e : Nat → Nat → Int32, ∃ p_e : Nat, 1 = 1 ∧ stm b sz n st mm (ia 11) (ia 12) K a = .ok ((n1_e, st1_e, mm1_e, h1_e, c1_e, K1_e), p_e) ∧ nI (n1_e) = (nI n) ∧ nI (st1_e) = (nI (fg b sz (nx b sz a))) ∧ nI (mm1_e) = (nI mm) ∧ h1_e = (ia 11) ∧ c1_e = (ia 12) ∧ K1_e = K ∧ nI (nx b sz p_e) = (nI (nx b sz (nx b sz (nx b sz a)))) ∧ nI (kd b sz p_e) = (nI (kd b sz (nx b sz (nx b sz a)))) ∧ nI (fr b sz p_e) = (nI (fr b sz (nx b sz (nx b sz a)))) ∧ nI (fg b sz p_e) = (nI (fg b sz (nx b sz (nx b sz a))))) ∨ (∃ f_e : Nat, 1 = 0 ∧ stm b sz n st mm (ia 11) (ia 12) K a = .error f_e ∧ nI (f_e) = (iv 26)); exact Or.inl ⟨_, _, _, _, _, _, _, rfl, (by unfold stm; rw [if_neg hw1, if_neg (show ¬ isW b sz a 2 = true from by rw [c_62]; decide), if_neg (show ¬ isW b sz a 3 = true from by rw [c_76]; decide), if_pos c_113, f0_122]), rfl, rfl, rfl, rfl, rfl, rfl, rfl, rfl, rfl, rfl⟩) (Nat.le_of_ble_eq_true rfl) (Nat.le_of_ble_eq_true rfl) rfl
          · skip
            have f0_122 : numE b sz (nx b sz a) 2 4 = .error (fr b sz (nx b sz a)) := f0_122
            have hI : wI E AR sR H locs (mW E ad kp tr (va_up (va_up (va_up (va_up (va_up iv 22 c22_122) 23 c23_122) 24 c24_122) 25 c25_122) 26 (nI (fr b sz (nx b sz a)))) (va_up ia 27 g27_122) K R mv) := hI
            refine lv_istore_n (lv' := [(1, .int 0), (0, .ref (ad 45))]) hxR hbR dX5_statement_125 rfl hl (by decide) rfl (fun ls hl => ?_)
            refine lv_aload_n hxR hbR dX5_statement_126 rfl (lv_at hl 1 rfl) ?_
            refine lv_iload_n hxR hbR dX5_statement_127 rfl (lv_at hl 0 rfl) ?_
            refine lv_if_eq (tgt := 140) hxR hbR dX5_statement_128 (by decide) (fun _ => ?_) (fun c => absurd c (by decide))
            refine lv_aload_n hxR hbR dX5_statement_140 rfl (lv_at hl 1 rfl) ?_
            refine r_get hxR hbR hts hown hK hI okX5 (ci := 5) rfl 16 mW_o 14 (by decide) q1492 rfl (v := .int (nI st)) (al (up_n (by decide) (up_n (by decide) (up_n (by decide) (up_n (by decide) (up_n (by decide) hst)))))) dX5_statement_141 ?_
            refine r_put (v := .int (nI st)) (ws1 := mW E ad kp tr (va_up (va_up (va_up (va_up (va_up (va_up iv 14 (nI st)) 22 c22_122) 23 c23_122) 24 c24_122) 25 c25_122) 26 (nI (fr b sz (nx b sz a)))) (va_up ia 27 g27_122) K R mv) hxR hbR hts hown hK hI okX5 (ci := 5) rfl 16 mW_o 14 (by decide) q1492 rfl rfl rfl rfl (Nat.le_of_ble_eq_true rfl) (Eq.trans mW_i14 (mW_c1 (up_s (by decide) (up_s (by decide) (up_s (by decide) (up_s (by decide) (up_s (by decide) rfl))))))) dX5_statement_144 (fun H locs hI => ?_)
            refine lv_iload_n hxR hbR dX5_statement_147 rfl (lv_at hl 0 rfl) ?_
            have hI := wI_w (ws' := mW E ad kp tr (va_up (va_up (va_up (va_up (va_up (va_up (va_up (va_up iv 10 (nI n)) 14 (nI st)) 15 (nI mm)) 22 c22_122) 23 c23_122) 24 c24_122) 25 c25_122) 26 (nI (fr b sz (nx b sz a)))) (va_up (va_up (va_up ia 11 (ia 11)) 12 (ia 12)) 27 g27_122) K R mv) (by rw [va_up_id (f := iv) (k := 10) (v := (nI n)) hn, va_up_id (f := (va_up iv 14 (nI st))) (k := 15) (v := (nI mm)) (up_n (by decide) hmm), va_up_id (f := ia) (k := 11) (v := (ia 11)) rfl, va_up_id (f := ia) (k := 12) (v := (ia 12)) rfl]; try rfl) hI
            exact hret (nI n, nI st, nI mm, c22_122, c23_122, c24_122, c25_122, nI (fr b sz (nx b sz a)), g27_122, ia 11, ia 12, K) 0 _ _ 0 0 _ _ dX5_statement_148 hI (by show (∃ n1_e : Nat, ∃ st1_e : Nat, ∃ mm1_e : Nat, ∃ h1_e : Nat → Int32, ∃ c1_e : Nat → Int32, ∃ K1_e : Nat → Nat → Int32, ∃ p_e : Nat, 0 = 1 ∧ stm b sz n st mm (ia 11) (ia 12) K a = .ok ((n1_e, st1_e, mm1_e, h1_e, c1_e, K1_e), p_e) ∧ nI (n1_e) = (nI n) ∧ nI (st1_e) = (nI st) ∧ nI (mm1_e) = (nI mm) ∧ h1_e = (ia 11) ∧ c1_e = (ia 12) ∧ K1_e = K ∧ nI (nx b sz p_e) = c22_122 ∧ nI (kd b sz p_e) = c23_122 ∧ nI (fr b sz p_e) = c24_122 ∧ nI (fg b sz p_e) = c25_122) ∨ (∃ f_e : Nat, 0 = 0 ∧ stm b sz n st mm (ia 11) (ia 12) K a = .error f_e ∧ nI (f_e) = (nI (fr b sz (nx b sz a)))); exact Or.inr ⟨_, rfl, (by unfold stm; rw [if_neg hw1, if_neg (show ¬ isW b sz a 2 = true from by rw [c_62]; decide), if_neg (show ¬ isW b sz a 3 = true from by rw [c_76]; decide), if_pos c_113, f0_122]), rfl⟩) (Nat.le_of_ble_eq_true rfl) (Nat.le_of_ble_eq_true rfl) rfl
        · skip
          have c_113 : isW b sz a 4 = false := c_113
          refine lv_if_eq (tgt := 149) hxR hbR dX5_statement_116 (by decide) (fun _ => ?_) (fun c => absurd c (by decide))
          refine lv_aload_n hxR hbR dX5_statement_149 rfl (lv_at hl 0 rfl) ?_
          refine va_ldcS hxR hbR hown (hK.2.2.2.1 ("ThreeStrangersModel", 226, "memory", 5) (by decide)) dX5_statement_150 ?_
          refine kVI (n := 1) (As := [.ref (E.1.2.1 5)]) (rest := []) (fun w => w) hxR hbR hmlR hts hown hK hA hl.1 isCtx.id hI (c5_isWord l E ad kp tr iv ia K R mv b sz a 5 hsz (by first | omega | with_reducible assumption) (tpOk.of rfl htp) h22 h23 h24 h25 (by first | omega | with_reducible assumption) (by first | omega | with_reducible assumption)) (lw_V q1792 q1794 qs55 q86 q1795) ⟨rfl, by decide +kernel⟩ 16 5 rfl rfl mW_o rfl (Nat.le_of_ble_eq_true rfl) (Nat.le_of_ble_eq_true rfl) ⟨Nat.le_of_ble_eq_true rfl, Nat.le_of_ble_eq_true rfl⟩ (Nat.le_of_ble_eq_true rfl) dX5_statement_152 (fun r_152 u H locs hp hI hz => ?_)
          have hI : wI E AR sR H locs (mW E ad kp tr iv ia K R mv) := hI
          have hp : r_152 = b2i (isW b sz a 5) := hp
          have hr_152 := hp
          rcases b2i_cases hr_152 with ⟨c_152, rfl⟩ | ⟨c_152, rfl⟩
          · skip
            have c_152 : isW b sz a 5 = true := c_152
            refine lv_if_eq (tgt := 189) hxR hbR dX5_statement_155 (by decide) (fun c => absurd c (by decide)) (fun _ => ?_)
            refine lv_aload_n hxR hbR dX5_statement_158 rfl (lv_at hl 0 rfl) ?_
            refine lv_iconst (v := 0) hxR hbR dX5_statement_159 (by decide) ?_
            refine lv_bipush (v := 99) hxR hbR dX5_statement_160 (by decide) ?_
            refine kVI (n := 2) (As := [.int 0, .int 99]) (rest := []) (fun w => w) hxR hbR hmlR hts hown hK hA hl.1 isCtx.id hI (c5_tells l E ad kp tr iv ia K R mv b sz a 0 99 hsz (by first | omega | with_reducible assumption) (tpOk.of rfl htp) h22 h23 h24 h25 (by first | omega | with_reducible assumption)) (lw_V q1815 q1817 qs56 q86 q1818) ⟨rfl, by decide +kernel⟩ 16 5 rfl rfl mW_o rfl (Nat.le_of_ble_eq_true rfl) (Nat.le_of_ble_eq_true rfl) ⟨Nat.le_of_ble_eq_true rfl, Nat.le_of_ble_eq_true rfl⟩ (Nat.le_of_ble_eq_true rfl) dX5_statement_162 (fun r_162 u H locs hp hI hz => ?_)
            obtain ⟨c22_162, c23_162, c24_162, c25_162, c26_162, g27_162⟩ := u
            have hI : wI E AR sR H locs (mW E ad kp tr (va_up (va_up (va_up (va_up (va_up iv 22 c22_162) 23 c23_162) 24 c24_162) 25 c25_162) 26 c26_162) (va_up ia 27 g27_162) K R mv) := hI
            have hp : (r_162 = 1 ∧ numE b sz (nx b sz a) (Int32.toInt 0) (Int32.toInt 99) = .ok (fg b sz (nx b sz a), nx b sz (nx b sz a)) ∧ nI (nx b sz (nx b sz (nx b sz a))) = c22_162 ∧ nI (kd b sz (nx b sz (nx b sz a))) = c23_162 ∧ nI (fr b sz (nx b sz (nx b sz a))) = c24_162 ∧ nI (fg b sz (nx b sz (nx b sz a))) = c25_162 ∧ iv 26 = c26_162 ∧ va_up (ia 27) 0 (nI (fg b sz (nx b sz a))) = g27_162) ∨ (r_162 = 0 ∧ numE b sz (nx b sz a) (Int32.toInt 0) (Int32.toInt 99) = .error (fr b sz (nx b sz a)) ∧ nI (fr b sz (nx b sz a)) = c26_162) := hp
            have h2_162 := hp
            rcases h2_162 with ⟨rfl, f0_162, rfl, rfl, rfl, rfl, rfl, rfl⟩ | ⟨rfl, f0_162, rfl⟩
            · skip
              have f0_162 : numE b sz (nx b sz a) 0 99 = .ok (fg b sz (nx b sz a), nx b sz (nx b sz a)) := f0_162
              have hI : wI E AR sR H locs (mW E ad kp tr (va_up (va_up (va_up (va_up (va_up iv 22 (nI (nx b sz (nx b sz (nx b sz a))))) 23 (nI (kd b sz (nx b sz (nx b sz a))))) 24 (nI (fr b sz (nx b sz (nx b sz a))))) 25 (nI (fg b sz (nx b sz (nx b sz a))))) 26 (iv 26)) (va_up ia 27 (va_up (ia 27) 0 (nI (fg b sz (nx b sz a))))) K R mv) := hI
              refine lv_istore_n (lv' := [(1, .int 1), (0, .ref (ad 45))]) hxR hbR dX5_statement_165 rfl hl (by decide) rfl (fun ls hl => ?_)
              refine lv_aload_n hxR hbR dX5_statement_166 rfl (lv_at hl 1 rfl) ?_
              refine lv_iload_n hxR hbR dX5_statement_167 rfl (lv_at hl 0 rfl) ?_
              refine lv_if_eq (tgt := 180) hxR hbR dX5_statement_168 (by decide) (fun c => absurd c (by decide)) (fun _ => ?_)
              refine lv_aload_n hxR hbR dX5_statement_171 rfl (lv_at hl 1 rfl) ?_
              refine r_get hxR hbR hts hown hK hI okX5 (ci := 5) rfl 16 mW_o 27 (by decide) q1505 rfl (v := .ref (ad 27)) rfl dX5_statement_172 ?_
              refine lv_iconst (v := 0) hxR hbR dX5_statement_175 (by decide) ?_
              refine r_iald hxR hbR hK hI 29 (n := 2) (J := 0) (f := (va_up (ia 27) 0 (nI (fg b sz (nx b sz a))))) (v := nI (fg b sz (nx b sz a))) (mW_g27 va_up_s) (by omega) (by decide) va_up_s dX5_statement_176 ?_
              refine lv_goto (tgt := 184) hxR hbR dX5_statement_177 (by decide) ?_
              refine r_put (v := .int (nI (fg b sz (nx b sz a)))) (ws1 := mW E ad kp tr (va_up (va_up (va_up (va_up (va_up (va_up iv 15 (nI (fg b sz (nx b sz a)))) 22 (nI (nx b sz (nx b sz (nx b sz a))))) 23 (nI (kd b sz (nx b sz (nx b sz a))))) 24 (nI (fr b sz (nx b sz (nx b sz a))))) 25 (nI (fg b sz (nx b sz (nx b sz a))))) 26 (iv 26)) (va_up ia 27 (va_up (ia 27) 0 (nI (fg b sz (nx b sz a))))) K R mv) hxR hbR hts hown hK hI okX5 (ci := 5) rfl 16 mW_o 15 (by decide) q1493 rfl rfl rfl rfl (Nat.le_of_ble_eq_true rfl) (Eq.trans mW_i15 (mW_c1 (up_s (by decide) (up_s (by decide) (up_s (by decide) (up_s (by decide) (up_s (by decide) rfl))))))) dX5_statement_184 (fun H locs hI => ?_)
              refine lv_iload_n hxR hbR dX5_statement_187 rfl (lv_at hl 0 rfl) ?_
              have hI := wI_w (ws' := mW E ad kp tr (va_up (va_up (va_up (va_up (va_up (va_up (va_up (va_up iv 10 (nI n)) 14 (nI st)) 15 (nI (fg b sz (nx b sz a)))) 22 (nI (nx b sz (nx b sz (nx b sz a))))) 23 (nI (kd b sz (nx b sz (nx b sz a))))) 24 (nI (fr b sz (nx b sz (nx b sz a))))) 25 (nI (fg b sz (nx b sz (nx b sz a))))) 26 (iv 26)) (va_up (va_up (va_up ia 11 (ia 11)) 12 (ia 12)) 27 (va_up (ia 27) 0 (nI (fg b sz (nx b sz a))))) K R mv) (by rw [va_up_id (f := iv) (k := 10) (v := (nI n)) hn, va_up_id (f := iv) (k := 14) (v := (nI st)) hst, va_up_id (f := ia) (k := 11) (v := (ia 11)) rfl, va_up_id (f := ia) (k := 12) (v := (ia 12)) rfl]; try rfl) hI
              exact hret (nI n, nI st, nI (fg b sz (nx b sz a)), nI (nx b sz (nx b sz (nx b sz a))), nI (kd b sz (nx b sz (nx b sz a))), nI (fr b sz (nx b sz (nx b sz a))), nI (fg b sz (nx b sz (nx b sz a))), (iv 26), (va_up (ia 27) 0 (nI (fg b sz (nx b sz a)))), ia 11, ia 12, K) 1 _ _ 0 0 _ _ dX5_statement_188 hI (by show (∃ n1_e : Nat, ∃ st1_e : Nat, ∃ mm1_e : Nat, ∃ h1_e : Nat → Int32, ∃ c1_e : Nat → Int32, ∃ K1_e : Nat → Nat → Int32, ∃ p_e : Nat, 1 = 1 ∧ stm b sz n st mm (ia 11) (ia 12) K a = .ok ((n1_e, st1_e, mm1_e, h1_e, c1_e, K1_e), p_e) ∧ nI (n1_e) = (nI n) ∧ nI (st1_e) = (nI st) ∧ nI (mm1_e) = (nI (fg b sz (nx b sz a))) ∧ h1_e = (ia 11) ∧ c1_e = (ia 12) ∧ K1_e = K ∧ nI (nx b sz p_e) = (nI (nx b sz (nx b sz (nx b sz a)))) ∧ nI (kd b sz p_e) = (nI (kd b sz (nx b sz (nx b sz a)))) ∧ nI (fr b sz p_e) = (nI (fr b sz (nx b sz (nx b sz a)))) ∧ nI (fg b sz p_e) = (nI (fg b sz (nx b sz (nx b sz a))))) ∨ (∃ f_e : Nat, 1 = 0 ∧ stm b sz n st mm (ia 11) (ia 12) K a = .error f_e ∧ nI (f_e) = (iv 26)); exact Or.inl ⟨_, _, _, _, _, _, _, rfl, (by unfold stm; rw [if_neg hw1, if_neg (show ¬ isW b sz a 2 = true from by rw [c_62]; decide), if_neg (show ¬ isW b sz a 3 = true from by rw [c_76]; decide), if_neg (show ¬ isW b sz a 4 = true from by rw [c_113]; decide), if_pos c_152, f0_162]), rfl, rfl, rfl, rfl, rfl, rfl, rfl, rfl, rfl, rfl⟩) (Nat.le_of_ble_eq_true rfl) (Nat.le_of_ble_eq_true rfl) rfl
            · skip
              have f0_162 : numE b sz (nx b sz a) 0 99 = .error (fr b sz (nx b sz a)) := f0_162
              have hI : wI E AR sR H locs (mW E ad kp tr (va_up (va_up (va_up (va_up (va_up iv 22 c22_162) 23 c23_162) 24 c24_162) 25 c25_162) 26 (nI (fr b sz (nx b sz a)))) (va_up ia 27 g27_162) K R mv) := hI
              refine lv_istore_n (lv' := [(1, .int 0), (0, .ref (ad 45))]) hxR hbR dX5_statement_165 rfl hl (by decide) rfl (fun ls hl => ?_)
              refine lv_aload_n hxR hbR dX5_statement_166 rfl (lv_at hl 1 rfl) ?_
              refine lv_iload_n hxR hbR dX5_statement_167 rfl (lv_at hl 0 rfl) ?_
              refine lv_if_eq (tgt := 180) hxR hbR dX5_statement_168 (by decide) (fun _ => ?_) (fun c => absurd c (by decide))
              refine lv_aload_n hxR hbR dX5_statement_180 rfl (lv_at hl 1 rfl) ?_
              refine r_get hxR hbR hts hown hK hI okX5 (ci := 5) rfl 16 mW_o 15 (by decide) q1493 rfl (v := .int (nI mm)) (al (up_n (by decide) (up_n (by decide) (up_n (by decide) (up_n (by decide) (up_n (by decide) hmm)))))) dX5_statement_181 ?_
              refine r_put (v := .int (nI mm)) (ws1 := mW E ad kp tr (va_up (va_up (va_up (va_up (va_up (va_up iv 15 (nI mm)) 22 c22_162) 23 c23_162) 24 c24_162) 25 c25_162) 26 (nI (fr b sz (nx b sz a)))) (va_up ia 27 g27_162) K R mv) hxR hbR hts hown hK hI okX5 (ci := 5) rfl 16 mW_o 15 (by decide) q1493 rfl rfl rfl rfl (Nat.le_of_ble_eq_true rfl) (Eq.trans mW_i15 (mW_c1 (up_s (by decide) (up_s (by decide) (up_s (by decide) (up_s (by decide) (up_s (by decide) rfl))))))) dX5_statement_184 (fun H locs hI => ?_)
              refine lv_iload_n hxR hbR dX5_statement_187 rfl (lv_at hl 0 rfl) ?_
              have hI := wI_w (ws' := mW E ad kp tr (va_up (va_up (va_up (va_up (va_up (va_up (va_up (va_up iv 10 (nI n)) 14 (nI st)) 15 (nI mm)) 22 c22_162) 23 c23_162) 24 c24_162) 25 c25_162) 26 (nI (fr b sz (nx b sz a)))) (va_up (va_up (va_up ia 11 (ia 11)) 12 (ia 12)) 27 g27_162) K R mv) (by rw [va_up_id (f := iv) (k := 10) (v := (nI n)) hn, va_up_id (f := iv) (k := 14) (v := (nI st)) hst, va_up_id (f := ia) (k := 11) (v := (ia 11)) rfl, va_up_id (f := ia) (k := 12) (v := (ia 12)) rfl]; try rfl) hI
              exact hret (nI n, nI st, nI mm, c22_162, c23_162, c24_162, c25_162, nI (fr b sz (nx b sz a)), g27_162, ia 11, ia 12, K) 0 _ _ 0 0 _ _ dX5_statement_188 hI (by show (∃ n1_e : Nat, ∃ st1_e : Nat, ∃ mm1_e : Nat, ∃ h1_e : Nat → Int32, ∃ c1_e : Nat → Int32, ∃ K1_e : Nat → Nat → Int32, ∃ p_e : Nat, 0 = 1 ∧ stm b sz n st mm (ia 11) (ia 12) K a = .ok ((n1_e, st1_e, mm1_e, h1_e, c1_e, K1_e), p_e) ∧ nI (n1_e) = (nI n) ∧ nI (st1_e) = (nI st) ∧ nI (mm1_e) = (nI mm) ∧ h1_e = (ia 11) ∧ c1_e = (ia 12) ∧ K1_e = K ∧ nI (nx b sz p_e) = c22_162 ∧ nI (kd b sz p_e) = c23_162 ∧ nI (fr b sz p_e) = c24_162 ∧ nI (fg b sz p_e) = c25_162) ∨ (∃ f_e : Nat, 0 = 0 ∧ stm b sz n st mm (ia 11) (ia 12) K a = .error f_e ∧ nI (f_e) = (nI (fr b sz (nx b sz a)))); exact Or.inr ⟨_, rfl, (by unfold stm; rw [if_neg hw1, if_neg (show ¬ isW b sz a 2 = true from by rw [c_62]; decide), if_neg (show ¬ isW b sz a 3 = true from by rw [c_76]; decide), if_neg (show ¬ isW b sz a 4 = true from by rw [c_113]; decide), if_pos c_152, f0_162]), rfl⟩) (Nat.le_of_ble_eq_true rfl) (Nat.le_of_ble_eq_true rfl) rfl
          · skip
            have c_152 : isW b sz a 5 = false := c_152
            refine lv_if_eq (tgt := 189) hxR hbR dX5_statement_155 (by decide) (fun _ => ?_) (fun c => absurd c (by decide))
            refine lv_aload_n hxR hbR dX5_statement_189 rfl (lv_at hl 0 rfl) ?_
            refine va_ldcS hxR hbR hown (hK.2.2.2.1 ("ThreeStrangersModel", 227, "met", 6) (by decide)) dX5_statement_190 ?_
            refine kVI (n := 1) (As := [.ref (E.1.2.1 6)]) (rest := []) (fun w => w) hxR hbR hmlR hts hown hK hA hl.1 isCtx.id hI (c5_isWord l E ad kp tr iv ia K R mv b sz a 6 hsz (by first | omega | with_reducible assumption) (tpOk.of rfl htp) h22 h23 h24 h25 (by first | omega | with_reducible assumption) (by first | omega | with_reducible assumption)) (lw_V q1792 q1794 qs55 q86 q1795) ⟨rfl, by decide +kernel⟩ 16 5 rfl rfl mW_o rfl (Nat.le_of_ble_eq_true rfl) (Nat.le_of_ble_eq_true rfl) ⟨Nat.le_of_ble_eq_true rfl, Nat.le_of_ble_eq_true rfl⟩ (Nat.le_of_ble_eq_true rfl) dX5_statement_192 (fun r_192 u H locs hp hI hz => ?_)
            have hI : wI E AR sR H locs (mW E ad kp tr iv ia K R mv) := hI
            have hp : r_192 = b2i (isW b sz a 6) := hp
            have hr_192 := hp
            rcases b2i_cases hr_192 with ⟨c_192, rfl⟩ | ⟨c_192, rfl⟩
            · skip
              have c_192 : isW b sz a 6 = true := c_192
              refine lv_if_eq (tgt := 205) hxR hbR dX5_statement_195 (by decide) (fun c => absurd c (by decide)) (fun _ => ?_)
              refine lv_aload_n hxR hbR dX5_statement_198 rfl (lv_at hl 0 rfl) ?_
              refine kVI (n := 0) (As := []) (rest := []) (fun w => w) hxR hbR hmlR hts hown hK hA hl.1 isCtx.id hI (c5_metTold l E ad kp tr iv ia K R mv b sz a n hsz (by first | omega | with_reducible assumption) (tpOk.of rfl htp) h22 h23 h24 h25 (by first | omega | with_reducible assumption) hn (by first | omega | with_reducible assumption)) (lw_V q1841 q1843 qs61 q86 q1844) ⟨rfl, by decide +kernel⟩ 16 5 rfl rfl mW_o rfl (Nat.le_of_ble_eq_true rfl) (Nat.le_of_ble_eq_true rfl) ⟨Nat.le_of_ble_eq_true rfl, Nat.le_of_ble_eq_true rfl⟩ (Nat.le_of_ble_eq_true rfl) dX5_statement_199 (fun r_199 u H locs hp hI hz => ?_)
              obtain ⟨c22_199, c23_199, c24_199, c25_199, c26_199, g27_199, K2_199⟩ := u
              have hI : wI E AR sR H locs (mW E ad kp tr (va_up (va_up (va_up (va_up (va_up iv 22 c22_199) 23 c23_199) 24 c24_199) 25 c25_199) 26 c26_199) (va_up ia 27 g27_199) K2_199 R mv) := hI
              have hp : (∃ S9_e : Nat, ∃ p9_e : Nat, r_199 = 1 ∧ metE b sz n a = .ok (S9_e, p9_e) ∧ p9_e ≤ sz ∧ nI (nx b sz p9_e) = c22_199 ∧ nI (kd b sz p9_e) = c23_199 ∧ nI (fr b sz p9_e) = c24_199 ∧ nI (fg b sz p9_e) = c25_199 ∧ meetK K S9_e n = K2_199) ∨ (∃ f_e : Nat, r_199 = 0 ∧ metE b sz n a = .error f_e ∧ nI (f_e) = c26_199) := hp
              have h2_199 := hp
              rcases h2_199 with ⟨S9_199, p9_199, rfl, f0_199, f1_199, rfl, rfl, rfl, rfl, rfl⟩ | ⟨f_199, rfl, f0_199, rfl⟩
              · skip
                have f0_199 : metE b sz n a = .ok (S9_199, p9_199) := f0_199
                have f1_199 : p9_199 ≤ sz := f1_199
                have hI : wI E AR sR H locs (mW E ad kp tr (va_up (va_up (va_up (va_up (va_up iv 22 (nI (nx b sz p9_199))) 23 (nI (kd b sz p9_199))) 24 (nI (fr b sz p9_199))) 25 (nI (fg b sz p9_199))) 26 c26_199) (va_up ia 27 g27_199) (meetK K S9_199 n) R mv) := hI
                refine lv_goto (tgt := 209) hxR hbR dX5_statement_202 (by decide) ?_
                have hI := wI_w (ws' := mW E ad kp tr (va_up (va_up (va_up (va_up (va_up (va_up (va_up (va_up iv 10 (nI n)) 14 (nI st)) 15 (nI mm)) 22 (nI (nx b sz p9_199))) 23 (nI (kd b sz p9_199))) 24 (nI (fr b sz p9_199))) 25 (nI (fg b sz p9_199))) 26 c26_199) (va_up (va_up (va_up ia 11 (ia 11)) 12 (ia 12)) 27 g27_199) (meetK K S9_199 n) R mv) (by rw [va_up_id (f := iv) (k := 10) (v := (nI n)) hn, va_up_id (f := iv) (k := 14) (v := (nI st)) hst, va_up_id (f := iv) (k := 15) (v := (nI mm)) hmm, va_up_id (f := ia) (k := 11) (v := (ia 11)) rfl, va_up_id (f := ia) (k := 12) (v := (ia 12)) rfl]; try rfl) hI
                exact hret (nI n, nI st, nI mm, nI (nx b sz p9_199), nI (kd b sz p9_199), nI (fr b sz p9_199), nI (fg b sz p9_199), c26_199, g27_199, ia 11, ia 12, (meetK K S9_199 n)) 1 _ _ 0 0 _ _ dX5_statement_209 hI (by show (∃ n1_e : Nat, ∃ st1_e : Nat, ∃ mm1_e : Nat, ∃ h1_e : Nat → Int32, ∃ c1_e : Nat → Int32, ∃ K1_e : Nat → Nat → Int32, ∃ p_e : Nat, 1 = 1 ∧ stm b sz n st mm (ia 11) (ia 12) K a = .ok ((n1_e, st1_e, mm1_e, h1_e, c1_e, K1_e), p_e) ∧ nI (n1_e) = (nI n) ∧ nI (st1_e) = (nI st) ∧ nI (mm1_e) = (nI mm) ∧ h1_e = (ia 11) ∧ c1_e = (ia 12) ∧ K1_e = (meetK K S9_199 n) ∧ nI (nx b sz p_e) = (nI (nx b sz p9_199)) ∧ nI (kd b sz p_e) = (nI (kd b sz p9_199)) ∧ nI (fr b sz p_e) = (nI (fr b sz p9_199)) ∧ nI (fg b sz p_e) = (nI (fg b sz p9_199))) ∨ (∃ f_e : Nat, 1 = 0 ∧ stm b sz n st mm (ia 11) (ia 12) K a = .error f_e ∧ nI (f_e) = c26_199); exact Or.inl ⟨_, _, _, _, _, _, _, rfl, (by unfold stm; rw [if_neg hw1, if_neg (show ¬ isW b sz a 2 = true from by rw [c_62]; decide), if_neg (show ¬ isW b sz a 3 = true from by rw [c_76]; decide), if_neg (show ¬ isW b sz a 4 = true from by rw [c_113]; decide), if_neg (show ¬ isW b sz a 5 = true from by rw [c_152]; decide), if_pos c_192, f0_199]), rfl, rfl, rfl, rfl, rfl, rfl, rfl, rfl, rfl, rfl⟩) (Nat.le_of_ble_eq_true rfl) (Nat.le_of_ble_eq_true rfl) rfl
              · skip
                have f0_199 : metE b sz n a = .error f_199 := f0_199
                have hI : wI E AR sR H locs (mW E ad kp tr (va_up (va_up (va_up (va_up (va_up iv 22 c22_199) 23 c23_199) 24 c24_199) 25 c25_199) 26 (nI f_199)) (va_up ia 27 g27_199) K2_199 R mv) := hI
                refine lv_goto (tgt := 209) hxR hbR dX5_statement_202 (by decide) ?_
                have hI := wI_w (ws' := mW E ad kp tr (va_up (va_up (va_up (va_up (va_up (va_up (va_up (va_up iv 10 (nI n)) 14 (nI st)) 15 (nI mm)) 22 c22_199) 23 c23_199) 24 c24_199) 25 c25_199) 26 (nI f_199)) (va_up (va_up (va_up ia 11 (ia 11)) 12 (ia 12)) 27 g27_199) K2_199 R mv) (by rw [va_up_id (f := iv) (k := 10) (v := (nI n)) hn, va_up_id (f := iv) (k := 14) (v := (nI st)) hst, va_up_id (f := iv) (k := 15) (v := (nI mm)) hmm, va_up_id (f := ia) (k := 11) (v := (ia 11)) rfl, va_up_id (f := ia) (k := 12) (v := (ia 12)) rfl]; try rfl) hI
                exact hret (nI n, nI st, nI mm, c22_199, c23_199, c24_199, c25_199, nI f_199, g27_199, ia 11, ia 12, K2_199) 0 _ _ 0 0 _ _ dX5_statement_209 hI (by show (∃ n1_e : Nat, ∃ st1_e : Nat, ∃ mm1_e : Nat, ∃ h1_e : Nat → Int32, ∃ c1_e : Nat → Int32, ∃ K1_e : Nat → Nat → Int32, ∃ p_e : Nat, 0 = 1 ∧ stm b sz n st mm (ia 11) (ia 12) K a = .ok ((n1_e, st1_e, mm1_e, h1_e, c1_e, K1_e), p_e) ∧ nI (n1_e) = (nI n) ∧ nI (st1_e) = (nI st) ∧ nI (mm1_e) = (nI mm) ∧ h1_e = (ia 11) ∧ c1_e = (ia 12) ∧ K1_e = K2_199 ∧ nI (nx b sz p_e) = c22_199 ∧ nI (kd b sz p_e) = c23_199 ∧ nI (fr b sz p_e) = c24_199 ∧ nI (fg b sz p_e) = c25_199) ∨ (∃ f_e : Nat, 0 = 0 ∧ stm b sz n st mm (ia 11) (ia 12) K a = .error f_e ∧ nI (f_e) = (nI f_199)); exact Or.inr ⟨_, rfl, (by unfold stm; rw [if_neg hw1, if_neg (show ¬ isW b sz a 2 = true from by rw [c_62]; decide), if_neg (show ¬ isW b sz a 3 = true from by rw [c_76]; decide), if_neg (show ¬ isW b sz a 4 = true from by rw [c_113]; decide), if_neg (show ¬ isW b sz a 5 = true from by rw [c_152]; decide), if_pos c_192, f0_199]), rfl⟩) (Nat.le_of_ble_eq_true rfl) (Nat.le_of_ble_eq_true rfl) rfl
            · skip
              have c_192 : isW b sz a 6 = false := c_192
              refine lv_if_eq (tgt := 205) hxR hbR dX5_statement_195 (by decide) (fun _ => ?_) (fun c => absurd c (by decide))
              refine lv_aload_n hxR hbR dX5_statement_205 rfl (lv_at hl 0 rfl) ?_
              refine kVI (n := 0) (As := []) (rest := []) (fun w => w) hxR hbR hmlR hts hown hK hA hl.1 isCtx.id hI (c5_wrong l E ad kp tr iv ia K R mv  ) (lw_V q1823 q1825 qs58 q86 q1826) ⟨rfl, by decide +kernel⟩ 16 5 rfl rfl mW_o rfl (Nat.le_of_ble_eq_true rfl) (Nat.le_of_ble_eq_true rfl) ⟨Nat.le_of_ble_eq_true rfl, Nat.le_of_ble_eq_true rfl⟩ (Nat.le_of_ble_eq_true rfl) dX5_statement_206 (fun r_206 u H locs hp hI hz => ?_)
              have hI : wI E AR sR H locs (mW E ad kp tr (va_up iv 26 (iv 24)) ia K R mv) := hI
              have hp : r_206 = 0 := hp
              have hr_206 := hp
              subst hr_206
              have hI := wI_w (ws' := mW E ad kp tr (va_up (va_up (va_up (va_up (va_up (va_up (va_up (va_up iv 10 (nI n)) 14 (nI st)) 15 (nI mm)) 22 (nI (nx b sz a))) 23 (nI (kd b sz a))) 24 (nI (fr b sz a))) 25 (nI (fg b sz a))) 26 (iv 24)) (va_up (va_up (va_up ia 11 (ia 11)) 12 (ia 12)) 27 (ia 27)) K R mv) (by rw [va_up_id (f := iv) (k := 10) (v := (nI n)) hn, va_up_id (f := iv) (k := 14) (v := (nI st)) hst, va_up_id (f := iv) (k := 15) (v := (nI mm)) hmm, va_up_id (f := iv) (k := 22) (v := (nI (nx b sz a))) h22, va_up_id (f := iv) (k := 23) (v := (nI (kd b sz a))) h23, va_up_id (f := iv) (k := 24) (v := (nI (fr b sz a))) h24, va_up_id (f := iv) (k := 25) (v := (nI (fg b sz a))) h25, va_up_id (f := ia) (k := 11) (v := (ia 11)) rfl, va_up_id (f := ia) (k := 12) (v := (ia 12)) rfl, va_up_id (f := ia) (k := 27) (v := (ia 27)) rfl]; try rfl) hI
              exact hret (nI n, nI st, nI mm, nI (nx b sz a), nI (kd b sz a), nI (fr b sz a), nI (fg b sz a), iv 24, ia 27, ia 11, ia 12, K) 0 _ _ 0 0 _ _ dX5_statement_209 hI (by show (∃ n1_e : Nat, ∃ st1_e : Nat, ∃ mm1_e : Nat, ∃ h1_e : Nat → Int32, ∃ c1_e : Nat → Int32, ∃ K1_e : Nat → Nat → Int32, ∃ p_e : Nat, 0 = 1 ∧ stm b sz n st mm (ia 11) (ia 12) K a = .ok ((n1_e, st1_e, mm1_e, h1_e, c1_e, K1_e), p_e) ∧ nI (n1_e) = (nI n) ∧ nI (st1_e) = (nI st) ∧ nI (mm1_e) = (nI mm) ∧ h1_e = (ia 11) ∧ c1_e = (ia 12) ∧ K1_e = K ∧ nI (nx b sz p_e) = (nI (nx b sz a)) ∧ nI (kd b sz p_e) = (nI (kd b sz a)) ∧ nI (fr b sz p_e) = (nI (fr b sz a)) ∧ nI (fg b sz p_e) = (nI (fg b sz a))) ∨ (∃ f_e : Nat, 0 = 0 ∧ stm b sz n st mm (ia 11) (ia 12) K a = .error f_e ∧ nI (f_e) = (iv 24)); exact Or.inr ⟨_, rfl, (by unfold stm; rw [if_neg hw1, if_neg (show ¬ isW b sz a 2 = true from by rw [c_62]; decide), if_neg (show ¬ isW b sz a 3 = true from by rw [c_76]; decide), if_neg (show ¬ isW b sz a 4 = true from by rw [c_113]; decide), if_neg (show ¬ isW b sz a 5 = true from by rw [c_152]; decide), if_neg (show ¬ isW b sz a 6 = true from by rw [c_192]; decide)]), h24.symm⟩) (Nat.le_of_ble_eq_true rfl) (Nat.le_of_ble_eq_true rfl) rfl
  refine lv_aload_n hxR hbR dX5_statement_0 rfl (lv_at hl 0 rfl) ?_
  refine va_ldcS hxR hbR hown (hK.2.2.2.1 ("ThreeStrangersModel", 216, "person", 1) (by decide)) dX5_statement_1 ?_
  refine kVI (n := 1) (As := [.ref (E.1.2.1 1)]) (rest := []) (fun w => w) hxR hbR hmlR hts hown hK hA hl.1 isCtx.id hI (c5_isWord l E ad kp tr iv ia K R mv b sz a 1 hsz (by first | omega | with_reducible assumption) (tpOk.of rfl htp) h22 h23 h24 h25 (by first | omega | with_reducible assumption) (by first | omega | with_reducible assumption)) (lw_V q1792 q1794 qs55 q86 q1795) ⟨rfl, by decide +kernel⟩ 16 5 rfl rfl mW_o rfl (Nat.le_of_ble_eq_true rfl) (Nat.le_of_ble_eq_true rfl) ⟨Nat.le_of_ble_eq_true rfl, Nat.le_of_ble_eq_true rfl⟩ (Nat.le_of_ble_eq_true rfl) dX5_statement_3 (fun r_3 u H locs hp hI hz => ?_)
  have hI : wI E AR sR H locs (mW E ad kp tr iv ia K R mv) := hI
  have hp : r_3 = b2i (isW b sz a 1) := hp
  have hr_3 := hp
  rcases b2i_cases hr_3 with ⟨c_3, rfl⟩ | ⟨c_3, rfl⟩
  · skip
    have c_3 : isW b sz a 1 = true := c_3
    refine lv_if_eq (tgt := 59) hxR hbR dX5_statement_6 (by decide) (fun c => absurd c (by decide)) (fun _ => ?_)
    refine lv_aload_n hxR hbR dX5_statement_9 rfl (lv_at hl 0 rfl) ?_
    refine r_get hxR hbR hts hown hK hI okX5 (ci := 5) rfl 16 mW_o 10 (by decide) q1488 rfl (v := .int (nI n)) (al hn) dX5_statement_10 ?_
    refine lv_bipush (v := 7) hxR hbR dX5_statement_13 (by decide) ?_
    refine lv_icmp_ge (tgt := 59) hxR hbR dX5_statement_15 (by decide) (fun c_15 => ?_) (fun c_15 => ?_)
    · skip
      have c_15 : 7 ≤ n := (n_le (a := 7) (b := n) (by omega) (by omega)).mp c_15
      exact cut_59  (fun z => by first | omega | (rw [c_3] at z; exact absurd z.1 (by decide))) _ _ hI _ (lv_sub hl [0] rfl)
    · skip
      have c_15 : n < 7 := Nat.lt_of_not_le (fun zz => c_15 ((n_le (a := 7) (b := n) (by omega) (by omega)).mpr zz))
      refine lv_aload_n hxR hbR dX5_statement_18 rfl (lv_at hl 0 rfl) ?_
      refine lv_iconst (v := 0) hxR hbR dX5_statement_19 (by decide) ?_
      refine lv_bipush (v := 23) hxR hbR dX5_statement_20 (by decide) ?_
      refine kVI (n := 2) (As := [.int 0, .int 23]) (rest := []) (fun w => w) hxR hbR hmlR hts hown hK hA hl.1 isCtx.id hI (c5_tells l E ad kp tr iv ia K R mv b sz a 0 23 hsz (by first | omega | with_reducible assumption) (tpOk.of rfl htp) h22 h23 h24 h25 (by first | omega | with_reducible assumption)) (lw_V q1815 q1817 qs56 q86 q1818) ⟨rfl, by decide +kernel⟩ 16 5 rfl rfl mW_o rfl (Nat.le_of_ble_eq_true rfl) (Nat.le_of_ble_eq_true rfl) ⟨Nat.le_of_ble_eq_true rfl, Nat.le_of_ble_eq_true rfl⟩ (Nat.le_of_ble_eq_true rfl) dX5_statement_22 (fun r_22 u H locs hp hI hz => ?_)
      obtain ⟨c22_22, c23_22, c24_22, c25_22, c26_22, g27_22⟩ := u
      have hI : wI E AR sR H locs (mW E ad kp tr (va_up (va_up (va_up (va_up (va_up iv 22 c22_22) 23 c23_22) 24 c24_22) 25 c25_22) 26 c26_22) (va_up ia 27 g27_22) K R mv) := hI
      have hp : (r_22 = 1 ∧ numE b sz (nx b sz a) (Int32.toInt 0) (Int32.toInt 23) = .ok (fg b sz (nx b sz a), nx b sz (nx b sz a)) ∧ nI (nx b sz (nx b sz (nx b sz a))) = c22_22 ∧ nI (kd b sz (nx b sz (nx b sz a))) = c23_22 ∧ nI (fr b sz (nx b sz (nx b sz a))) = c24_22 ∧ nI (fg b sz (nx b sz (nx b sz a))) = c25_22 ∧ iv 26 = c26_22 ∧ va_up (ia 27) 0 (nI (fg b sz (nx b sz a))) = g27_22) ∨ (r_22 = 0 ∧ numE b sz (nx b sz a) (Int32.toInt 0) (Int32.toInt 23) = .error (fr b sz (nx b sz a)) ∧ nI (fr b sz (nx b sz a)) = c26_22) := hp
      have h2_22 := hp
      rcases h2_22 with ⟨rfl, f0_22, rfl, rfl, rfl, rfl, rfl, rfl⟩ | ⟨rfl, f0_22, rfl⟩
      · skip
        have f0_22 : numE b sz (nx b sz a) 0 23 = .ok (fg b sz (nx b sz a), nx b sz (nx b sz a)) := f0_22
        have hI : wI E AR sR H locs (mW E ad kp tr (va_up (va_up (va_up (va_up (va_up iv 22 (nI (nx b sz (nx b sz (nx b sz a))))) 23 (nI (kd b sz (nx b sz (nx b sz a))))) 24 (nI (fr b sz (nx b sz (nx b sz a))))) 25 (nI (fg b sz (nx b sz (nx b sz a))))) 26 (iv 26)) (va_up ia 27 (va_up (ia 27) 0 (nI (fg b sz (nx b sz a))))) K R mv) := hI
        refine lv_if_eq (tgt := 39) hxR hbR dX5_statement_25 (by decide) (fun c => absurd c (by decide)) (fun _ => ?_)
        refine lv_aload_n hxR hbR dX5_statement_28 rfl (lv_at hl 0 rfl) ?_
        refine lv_iconst (v := 1) hxR hbR dX5_statement_29 (by decide) ?_
        refine lv_iconst (v := 0) hxR hbR dX5_statement_30 (by decide) ?_
        refine lv_bipush (v := 9) hxR hbR dX5_statement_31 (by decide) ?_
        refine kVI (n := 3) (As := [.int 1, .int 0, .int 9]) (rest := []) (fun w => w) hxR hbR hmlR hts hown hK hA hl.1 isCtx.id hI (c5_number l E ad kp tr (va_up (va_up (va_up (va_up (va_up iv 22 (nI (nx b sz (nx b sz (nx b sz a))))) 23 (nI (kd b sz (nx b sz (nx b sz a))))) 24 (nI (fr b sz (nx b sz (nx b sz a))))) 25 (nI (fg b sz (nx b sz (nx b sz a))))) 26 (iv 26)) (va_up ia 27 (va_up (ia 27) 0 (nI (fg b sz (nx b sz a))))) K R mv b sz (nx b sz (nx b sz a)) 1 0 9 (up_n (by decide) (up_n (by decide) (up_n (by decide) (up_n (by decide) (up_n (by decide) hsz))))) (by first | omega | with_reducible assumption) (tpOk.of (up_n (by decide) rfl) htp) (up_n (by decide) (up_n (by decide) (up_n (by decide) (up_n (by decide) va_up_s)))) (up_n (by decide) (up_n (by decide) (up_n (by decide) va_up_s))) (up_n (by decide) (up_n (by decide) va_up_s)) (up_n (by decide) va_up_s) (by first | omega | with_reducible assumption) (by first | omega | with_reducible assumption)) (lw_V q1819 q1821 qs57 q86 q1822) ⟨rfl, by decide +kernel⟩ 16 5 rfl rfl mW_o rfl (Nat.le_of_ble_eq_true rfl) (Nat.le_of_ble_eq_true rfl) ⟨Nat.le_of_ble_eq_true rfl, Nat.le_of_ble_eq_true rfl⟩ (Nat.le_of_ble_eq_true rfl) dX5_statement_33 (fun r_33 u H locs hp hI hz => ?_)
        obtain ⟨c22_33, c23_33, c24_33, c25_33, c26_33, g27_33⟩ := u
        have hI : wI E AR sR H locs (mW E ad kp tr (va_up (va_up (va_up (va_up (va_up (va_up (va_up (va_up (va_up (va_up iv 22 (nI (nx b sz (nx b sz (nx b sz a))))) 23 (nI (kd b sz (nx b sz (nx b sz a))))) 24 (nI (fr b sz (nx b sz (nx b sz a))))) 25 (nI (fg b sz (nx b sz (nx b sz a))))) 26 (iv 26)) 22 c22_33) 23 c23_33) 24 c24_33) 25 c25_33) 26 c26_33) (va_up (va_up ia 27 (va_up (ia 27) 0 (nI (fg b sz (nx b sz a))))) 27 g27_33) K R mv) := hI
        have hI := wI_w (ws' := mW E ad kp tr (va_up (va_up (va_up (va_up (va_up iv 22 c22_33) 23 c23_33) 24 c24_33) 25 c25_33) 26 c26_33) (va_up ia 27 g27_33) K R mv) (by rw [(show (va_up (va_up (va_up (va_up (va_up iv 22 c22_33) 23 c23_33) 24 c24_33) 25 c25_33) 26 c26_33) = (va_up (va_up (va_up (va_up (va_up (va_up (va_up (va_up (va_up (va_up iv 22 (nI (nx b sz (nx b sz (nx b sz a))))) 23 (nI (kd b sz (nx b sz (nx b sz a))))) 24 (nI (fr b sz (nx b sz (nx b sz a))))) 25 (nI (fg b sz (nx b sz (nx b sz a))))) 26 (iv 26)) 22 c22_33) 23 c23_33) 24 c24_33) 25 c25_33) 26 c26_33) from ((Eq.trans (congrArg (fun z => va_up z 26 c26_33) (Eq.trans (congrArg (fun z => va_up z 25 c25_33) (Eq.trans (congrArg (fun z => va_up z 24 c24_33) (Eq.trans (congrArg (fun z => va_up z 23 c23_33) (up_s (by decide) (up_s (by decide) (up_s (by decide) (up_s (by decide) up_0))))) (up_s (by decide) (up_s (by decide) (up_s (by decide) up_0))))) (up_s (by decide) (up_s (by decide) up_0)))) (up_s (by decide) up_0))) up_0)).symm), (show (va_up ia 27 g27_33) = (va_up (va_up ia 27 (va_up (ia 27) 0 (nI (fg b sz (nx b sz a))))) 27 g27_33) from (up_0).symm)]) hI
        have hI : wI E AR sR H locs (mW E ad kp tr (va_up (va_up (va_up (va_up (va_up iv 22 c22_33) 23 c23_33) 24 c24_33) 25 c25_33) 26 c26_33) (va_up ia 27 g27_33) K R mv) := hI
        have hp : (r_33 = 1 ∧ numE b sz (nx b sz (nx b sz a)) (Int32.toInt 0) (Int32.toInt 9) = .ok (fg b sz (nx b sz (nx b sz a)), nx b sz (nx b sz (nx b sz a))) ∧ nI (nx b sz (nx b sz (nx b sz (nx b sz a)))) = c22_33 ∧ nI (kd b sz (nx b sz (nx b sz (nx b sz a)))) = c23_33 ∧ nI (fr b sz (nx b sz (nx b sz (nx b sz a)))) = c24_33 ∧ nI (fg b sz (nx b sz (nx b sz (nx b sz a)))) = c25_33 ∧ (iv 26) = c26_33 ∧ va_up ((va_up (ia 27) 0 (nI (fg b sz (nx b sz a))))) 1 (nI (fg b sz (nx b sz (nx b sz a)))) = g27_33) ∨ (r_33 = 0 ∧ numE b sz (nx b sz (nx b sz a)) (Int32.toInt 0) (Int32.toInt 9) = .error (fr b sz (nx b sz (nx b sz a))) ∧ nI (fr b sz (nx b sz (nx b sz a))) = c26_33) := hp
        have h2_33 := hp
        rcases h2_33 with ⟨rfl, f0_33, rfl, rfl, rfl, rfl, rfl, rfl⟩ | ⟨rfl, f0_33, rfl⟩
        · skip
          have f0_33 : numE b sz (nx b sz (nx b sz a)) 0 9 = .ok (fg b sz (nx b sz (nx b sz a)), nx b sz (nx b sz (nx b sz a))) := f0_33
          have hI : wI E AR sR H locs (mW E ad kp tr (va_up (va_up (va_up (va_up (va_up iv 22 (nI (nx b sz (nx b sz (nx b sz (nx b sz a)))))) 23 (nI (kd b sz (nx b sz (nx b sz (nx b sz a)))))) 24 (nI (fr b sz (nx b sz (nx b sz (nx b sz a)))))) 25 (nI (fg b sz (nx b sz (nx b sz (nx b sz a)))))) 26 (iv 26)) (va_up ia 27 (va_up ((va_up (ia 27) 0 (nI (fg b sz (nx b sz a))))) 1 (nI (fg b sz (nx b sz (nx b sz a)))))) K R mv) := hI
          refine lv_if_ne (tgt := 41) hxR hbR dX5_statement_36 (by decide) (fun _ => ?_) (fun c => absurd c (by decide))
          refine lv_aload_n hxR hbR dX5_statement_41 rfl (lv_at hl 0 rfl) ?_
          refine lv_aload_n hxR hbR dX5_statement_42 rfl (lv_at hl 0 rfl) ?_
          refine r_get hxR hbR hts hown hK hI okX5 (ci := 5) rfl 16 mW_o 27 (by decide) q1505 rfl (v := .ref (ad 27)) rfl dX5_statement_43 ?_
          refine lv_iconst (v := 0) hxR hbR dX5_statement_46 (by decide) ?_
          refine r_iald hxR hbR hK hI 29 (n := 2) (J := 0) (f := (va_up ((va_up (ia 27) 0 (nI (fg b sz (nx b sz a))))) 1 (nI (fg b sz (nx b sz (nx b sz a)))))) (v := nI (fg b sz (nx b sz a))) (mW_g27 va_up_s) (by omega) (by decide) ((up_n (by decide) va_up_s)) dX5_statement_47 ?_
          refine lv_aload_n hxR hbR dX5_statement_48 rfl (lv_at hl 0 rfl) ?_
          refine r_get hxR hbR hts hown hK hI okX5 (ci := 5) rfl 16 mW_o 27 (by decide) q1505 rfl (v := .ref (ad 27)) rfl dX5_statement_49 ?_
          refine lv_iconst (v := 1) hxR hbR dX5_statement_52 (by decide) ?_
          refine r_iald hxR hbR hK hI 29 (n := 2) (J := 1) (f := (va_up ((va_up (ia 27) 0 (nI (fg b sz (nx b sz a))))) 1 (nI (fg b sz (nx b sz (nx b sz a)))))) (v := nI (fg b sz (nx b sz (nx b sz a)))) (mW_g27 va_up_s) (by omega) (by decide) va_up_s dX5_statement_53 ?_
          refine kVV (n := 2) (As := [.int (nI (fg b sz (nx b sz a))), .int (nI (fg b sz (nx b sz (nx b sz a))))]) (rest := []) (fun w => w) hxR hbR hmlR hts hown hK hA hl.1 isCtx.id hI (c5_addOne l E ad kp tr (va_up (va_up (va_up (va_up (va_up iv 22 (nI (nx b sz (nx b sz (nx b sz (nx b sz a)))))) 23 (nI (kd b sz (nx b sz (nx b sz (nx b sz a)))))) 24 (nI (fr b sz (nx b sz (nx b sz (nx b sz a)))))) 25 (nI (fg b sz (nx b sz (nx b sz (nx b sz a)))))) 26 (iv 26)) (va_up ia 27 (va_up ((va_up (ia 27) 0 (nI (fg b sz (nx b sz a))))) 1 (nI (fg b sz (nx b sz (nx b sz a)))))) K R mv n (nI (fg b sz (nx b sz a))) (nI (fg b sz (nx b sz (nx b sz a)))) (up_n (by decide) (up_n (by decide) (up_n (by decide) (up_n (by decide) (up_n (by decide) hn))))) (by omega)) (lw_V q1715 q1717 qs46 q86 q1718) ⟨rfl, by decide +kernel⟩ 16 5 rfl rfl mW_o rfl (Nat.le_of_ble_eq_true rfl) (Nat.le_of_ble_eq_true rfl) ⟨Nat.le_of_ble_eq_true rfl, Nat.le_of_ble_eq_true rfl⟩ (Nat.le_of_ble_eq_true rfl) dX5_statement_54 (fun u H locs hp hI hz => ?_)
          have hI : wI E AR sR H locs (mW E ad kp tr (va_up (va_up (va_up (va_up (va_up (va_up iv 22 (nI (nx b sz (nx b sz (nx b sz (nx b sz a)))))) 23 (nI (kd b sz (nx b sz (nx b sz (nx b sz a)))))) 24 (nI (fr b sz (nx b sz (nx b sz (nx b sz a)))))) 25 (nI (fg b sz (nx b sz (nx b sz (nx b sz a)))))) 26 (iv 26)) 10 (nI (n + 1))) (va_up (va_up (va_up ia 27 (va_up ((va_up (ia 27) 0 (nI (fg b sz (nx b sz a))))) 1 (nI (fg b sz (nx b sz (nx b sz a)))))) 11 (va_up ((ia 11)) n (nI (fg b sz (nx b sz a))))) 12 (va_up ((ia 12)) n (nI (fg b sz (nx b sz (nx b sz a)))))) (newK K n n) R mv) := hI
          have hI := wI_w (ws' := mW E ad kp tr (va_up (va_up (va_up (va_up (va_up (va_up iv 10 (nI (n + 1))) 22 (nI (nx b sz (nx b sz (nx b sz (nx b sz a)))))) 23 (nI (kd b sz (nx b sz (nx b sz (nx b sz a)))))) 24 (nI (fr b sz (nx b sz (nx b sz (nx b sz a)))))) 25 (nI (fg b sz (nx b sz (nx b sz (nx b sz a)))))) 26 (iv 26)) (va_up (va_up (va_up ia 11 (va_up ((ia 11)) n (nI (fg b sz (nx b sz a))))) 12 (va_up ((ia 12)) n (nI (fg b sz (nx b sz (nx b sz a)))))) 27 (va_up ((va_up (ia 27) 0 (nI (fg b sz (nx b sz a))))) 1 (nI (fg b sz (nx b sz (nx b sz a)))))) (newK K n n) R mv) (by rw [(show (va_up (va_up (va_up (va_up (va_up (va_up iv 10 (nI (n + 1))) 22 (nI (nx b sz (nx b sz (nx b sz (nx b sz a)))))) 23 (nI (kd b sz (nx b sz (nx b sz (nx b sz a)))))) 24 (nI (fr b sz (nx b sz (nx b sz (nx b sz a)))))) 25 (nI (fg b sz (nx b sz (nx b sz (nx b sz a)))))) 26 (iv 26)) = (va_up (va_up (va_up (va_up (va_up (va_up iv 22 (nI (nx b sz (nx b sz (nx b sz (nx b sz a)))))) 23 (nI (kd b sz (nx b sz (nx b sz (nx b sz a)))))) 24 (nI (fr b sz (nx b sz (nx b sz (nx b sz a)))))) 25 (nI (fg b sz (nx b sz (nx b sz (nx b sz a)))))) 26 (iv 26)) 10 (nI (n + 1))) from ((up_s (by decide) (up_s (by decide) (up_s (by decide) (up_s (by decide) (up_s (by decide) rfl)))))).symm), (show (va_up (va_up (va_up ia 11 (va_up ((ia 11)) n (nI (fg b sz (nx b sz a))))) 12 (va_up ((ia 12)) n (nI (fg b sz (nx b sz (nx b sz a)))))) 27 (va_up ((va_up (ia 27) 0 (nI (fg b sz (nx b sz a))))) 1 (nI (fg b sz (nx b sz (nx b sz a)))))) = (va_up (va_up (va_up ia 27 (va_up ((va_up (ia 27) 0 (nI (fg b sz (nx b sz a))))) 1 (nI (fg b sz (nx b sz (nx b sz a)))))) 11 (va_up ((ia 11)) n (nI (fg b sz (nx b sz a))))) 12 (va_up ((ia 12)) n (nI (fg b sz (nx b sz (nx b sz a)))))) from ((Eq.trans (congrArg (fun z => va_up z 12 (va_up ((ia 12)) n (nI (fg b sz (nx b sz (nx b sz a)))))) (up_s (by decide) rfl)) (up_s (by decide) rfl))).symm)]) hI
          have hI : wI E AR sR H locs (mW E ad kp tr (va_up (va_up (va_up (va_up (va_up (va_up iv 10 (nI (n + 1))) 22 (nI (nx b sz (nx b sz (nx b sz (nx b sz a)))))) 23 (nI (kd b sz (nx b sz (nx b sz (nx b sz a)))))) 24 (nI (fr b sz (nx b sz (nx b sz (nx b sz a)))))) 25 (nI (fg b sz (nx b sz (nx b sz (nx b sz a)))))) 26 (iv 26)) (va_up (va_up (va_up ia 11 (va_up ((ia 11)) n (nI (fg b sz (nx b sz a))))) 12 (va_up ((ia 12)) n (nI (fg b sz (nx b sz (nx b sz a)))))) 27 (va_up ((va_up (ia 27) 0 (nI (fg b sz (nx b sz a))))) 1 (nI (fg b sz (nx b sz (nx b sz a)))))) (newK K n n) R mv) := hI
          refine lv_iconst (v := 1) hxR hbR dX5_statement_57 (by decide) ?_
          have hI := wI_w (ws' := mW E ad kp tr (va_up (va_up (va_up (va_up (va_up (va_up (va_up (va_up iv 10 (nI (n + 1))) 14 (nI st)) 15 (nI mm)) 22 (nI (nx b sz (nx b sz (nx b sz (nx b sz a)))))) 23 (nI (kd b sz (nx b sz (nx b sz (nx b sz a)))))) 24 (nI (fr b sz (nx b sz (nx b sz (nx b sz a)))))) 25 (nI (fg b sz (nx b sz (nx b sz (nx b sz a)))))) 26 (iv 26)) (va_up (va_up (va_up ia 11 (va_up ((ia 11)) n (nI (fg b sz (nx b sz a))))) 12 (va_up ((ia 12)) n (nI (fg b sz (nx b sz (nx b sz a)))))) 27 (va_up ((va_up (ia 27) 0 (nI (fg b sz (nx b sz a))))) 1 (nI (fg b sz (nx b sz (nx b sz a)))))) (newK K n n) R mv) (by rw [va_up_id (f := (va_up iv 10 (nI (n + 1)))) (k := 14) (v := (nI st)) (up_n (by decide) hst), va_up_id (f := (va_up iv 10 (nI (n + 1)))) (k := 15) (v := (nI mm)) (up_n (by decide) hmm)]; try rfl) hI
          exact hret (nI (n + 1), nI st, nI mm, nI (nx b sz (nx b sz (nx b sz (nx b sz a)))), nI (kd b sz (nx b sz (nx b sz (nx b sz a)))), nI (fr b sz (nx b sz (nx b sz (nx b sz a)))), nI (fg b sz (nx b sz (nx b sz (nx b sz a)))), (iv 26), (va_up ((va_up (ia 27) 0 (nI (fg b sz (nx b sz a))))) 1 (nI (fg b sz (nx b sz (nx b sz a))))), va_up ((ia 11)) n (nI (fg b sz (nx b sz a))), va_up ((ia 12)) n (nI (fg b sz (nx b sz (nx b sz a)))), newK K n n) 1 _ _ 0 0 _ _ dX5_statement_58 hI (by show (∃ n1_e : Nat, ∃ st1_e : Nat, ∃ mm1_e : Nat, ∃ h1_e : Nat → Int32, ∃ c1_e : Nat → Int32, ∃ K1_e : Nat → Nat → Int32, ∃ p_e : Nat, 1 = 1 ∧ stm b sz n st mm (ia 11) (ia 12) K a = .ok ((n1_e, st1_e, mm1_e, h1_e, c1_e, K1_e), p_e) ∧ nI (n1_e) = (nI (n + 1)) ∧ nI (st1_e) = (nI st) ∧ nI (mm1_e) = (nI mm) ∧ h1_e = (va_up ((ia 11)) n (nI (fg b sz (nx b sz a)))) ∧ c1_e = (va_up ((ia 12)) n (nI (fg b sz (nx b sz (nx b sz a))))) ∧ K1_e = (newK K n n) ∧ nI (nx b sz p_e) = (nI (nx b sz (nx b sz (nx b sz (nx b sz a))))) ∧ nI (kd b sz p_e) = (nI (kd b sz (nx b sz (nx b sz (nx b sz a))))) ∧ nI (fr b sz p_e) = (nI (fr b sz (nx b sz (nx b sz (nx b sz a))))) ∧ nI (fg b sz p_e) = (nI (fg b sz (nx b sz (nx b sz (nx b sz a)))))) ∨ (∃ f_e : Nat, 1 = 0 ∧ stm b sz n st mm (ia 11) (ia 12) K a = .error f_e ∧ nI (f_e) = (iv 26)); exact Or.inl ⟨_, _, _, _, _, _, _, rfl, (by unfold stm; rw [if_pos ⟨c_3, c_15⟩, f0_22]; dsimp only; rw [f0_33]), rfl, rfl, rfl, rfl, rfl, rfl, rfl, rfl, rfl, rfl⟩) (Nat.le_of_ble_eq_true rfl) (Nat.le_of_ble_eq_true rfl) rfl
        · skip
          have f0_33 : numE b sz (nx b sz (nx b sz a)) 0 9 = .error (fr b sz (nx b sz (nx b sz a))) := f0_33
          have hI : wI E AR sR H locs (mW E ad kp tr (va_up (va_up (va_up (va_up (va_up iv 22 c22_33) 23 c23_33) 24 c24_33) 25 c25_33) 26 (nI (fr b sz (nx b sz (nx b sz a))))) (va_up ia 27 g27_33) K R mv) := hI
          refine lv_if_ne (tgt := 41) hxR hbR dX5_statement_36 (by decide) (fun c => absurd c (by decide)) (fun _ => ?_)
          refine lv_iconst (v := 0) hxR hbR dX5_statement_39 (by decide) ?_
          have hI := wI_w (ws' := mW E ad kp tr (va_up (va_up (va_up (va_up (va_up (va_up (va_up (va_up iv 10 (nI n)) 14 (nI st)) 15 (nI mm)) 22 c22_33) 23 c23_33) 24 c24_33) 25 c25_33) 26 (nI (fr b sz (nx b sz (nx b sz a))))) (va_up (va_up (va_up ia 11 (ia 11)) 12 (ia 12)) 27 g27_33) K R mv) (by rw [va_up_id (f := iv) (k := 10) (v := (nI n)) hn, va_up_id (f := iv) (k := 14) (v := (nI st)) hst, va_up_id (f := iv) (k := 15) (v := (nI mm)) hmm, va_up_id (f := ia) (k := 11) (v := (ia 11)) rfl, va_up_id (f := ia) (k := 12) (v := (ia 12)) rfl]; try rfl) hI
          exact hret (nI n, nI st, nI mm, c22_33, c23_33, c24_33, c25_33, nI (fr b sz (nx b sz (nx b sz a))), g27_33, ia 11, ia 12, K) 0 _ _ 0 0 _ _ dX5_statement_40 hI (by show (∃ n1_e : Nat, ∃ st1_e : Nat, ∃ mm1_e : Nat, ∃ h1_e : Nat → Int32, ∃ c1_e : Nat → Int32, ∃ K1_e : Nat → Nat → Int32, ∃ p_e : Nat, 0 = 1 ∧ stm b sz n st mm (ia 11) (ia 12) K a = .ok ((n1_e, st1_e, mm1_e, h1_e, c1_e, K1_e), p_e) ∧ nI (n1_e) = (nI n) ∧ nI (st1_e) = (nI st) ∧ nI (mm1_e) = (nI mm) ∧ h1_e = (ia 11) ∧ c1_e = (ia 12) ∧ K1_e = K ∧ nI (nx b sz p_e) = c22_33 ∧ nI (kd b sz p_e) = c23_33 ∧ nI (fr b sz p_e) = c24_33 ∧ nI (fg b sz p_e) = c25_33) ∨ (∃ f_e : Nat, 0 = 0 ∧ stm b sz n st mm (ia 11) (ia 12) K a = .error f_e ∧ nI (f_e) = (nI (fr b sz (nx b sz (nx b sz a))))); exact Or.inr ⟨_, rfl, (by unfold stm; rw [if_pos ⟨c_3, c_15⟩, f0_22]; dsimp only; rw [f0_33]), rfl⟩) (Nat.le_of_ble_eq_true rfl) (Nat.le_of_ble_eq_true rfl) rfl
      · skip
        have f0_22 : numE b sz (nx b sz a) 0 23 = .error (fr b sz (nx b sz a)) := f0_22
        have hI : wI E AR sR H locs (mW E ad kp tr (va_up (va_up (va_up (va_up (va_up iv 22 c22_22) 23 c23_22) 24 c24_22) 25 c25_22) 26 (nI (fr b sz (nx b sz a)))) (va_up ia 27 g27_22) K R mv) := hI
        refine lv_if_eq (tgt := 39) hxR hbR dX5_statement_25 (by decide) (fun _ => ?_) (fun c => absurd c (by decide))
        refine lv_iconst (v := 0) hxR hbR dX5_statement_39 (by decide) ?_
        have hI := wI_w (ws' := mW E ad kp tr (va_up (va_up (va_up (va_up (va_up (va_up (va_up (va_up iv 10 (nI n)) 14 (nI st)) 15 (nI mm)) 22 c22_22) 23 c23_22) 24 c24_22) 25 c25_22) 26 (nI (fr b sz (nx b sz a)))) (va_up (va_up (va_up ia 11 (ia 11)) 12 (ia 12)) 27 g27_22) K R mv) (by rw [va_up_id (f := iv) (k := 10) (v := (nI n)) hn, va_up_id (f := iv) (k := 14) (v := (nI st)) hst, va_up_id (f := iv) (k := 15) (v := (nI mm)) hmm, va_up_id (f := ia) (k := 11) (v := (ia 11)) rfl, va_up_id (f := ia) (k := 12) (v := (ia 12)) rfl]; try rfl) hI
        exact hret (nI n, nI st, nI mm, c22_22, c23_22, c24_22, c25_22, nI (fr b sz (nx b sz a)), g27_22, ia 11, ia 12, K) 0 _ _ 0 0 _ _ dX5_statement_40 hI (by show (∃ n1_e : Nat, ∃ st1_e : Nat, ∃ mm1_e : Nat, ∃ h1_e : Nat → Int32, ∃ c1_e : Nat → Int32, ∃ K1_e : Nat → Nat → Int32, ∃ p_e : Nat, 0 = 1 ∧ stm b sz n st mm (ia 11) (ia 12) K a = .ok ((n1_e, st1_e, mm1_e, h1_e, c1_e, K1_e), p_e) ∧ nI (n1_e) = (nI n) ∧ nI (st1_e) = (nI st) ∧ nI (mm1_e) = (nI mm) ∧ h1_e = (ia 11) ∧ c1_e = (ia 12) ∧ K1_e = K ∧ nI (nx b sz p_e) = c22_22 ∧ nI (kd b sz p_e) = c23_22 ∧ nI (fr b sz p_e) = c24_22 ∧ nI (fg b sz p_e) = c25_22) ∨ (∃ f_e : Nat, 0 = 0 ∧ stm b sz n st mm (ia 11) (ia 12) K a = .error f_e ∧ nI (f_e) = (nI (fr b sz (nx b sz a)))); exact Or.inr ⟨_, rfl, (by unfold stm; rw [if_pos ⟨c_3, c_15⟩, f0_22]), rfl⟩) (Nat.le_of_ble_eq_true rfl) (Nat.le_of_ble_eq_true rfl) rfl
  · skip
    have c_3 : isW b sz a 1 = false := c_3
    refine lv_if_eq (tgt := 59) hxR hbR dX5_statement_6 (by decide) (fun _ => ?_) (fun c => absurd c (by decide))
    exact cut_59  (fun z => by first | omega | (rw [c_3] at z; exact absurd z.1 (by decide))) _ _ hI _ (lv_sub hl [0] rfl)

theorem c5_readAll (l : Launch) (E : En) (ad : Nat → Nat) (kp tr : Option Nat) (iv : Nat → Int32) (ia K : Nat → Nat → Int32) (R : Nat → Nat → Int64) (mv : Nat → Int64) (b : Nat → Nat) (sz : Nat) (n st mm : Nat) (hsz : iv 8 = nI sz) (hz : sz ≤ 250) (htp : tpOk (ia 7) b sz) (hn : iv 10 = nI n) (hn7 : n ≤ 7) (hst : iv 14 = nI st) (hmm : iv 15 = nI mm) : CtI l E yX5_readAll cX5_readAll 1 .boolean 14 0 0 [.ref (ad 45)] (mW E ad kp tr iv ia K R mv) (fun (r : Int32) (u : Int32 × Int32 × Int32 × Int32 × Int32 × Int32 × Int32 × Int32 × Int32 × (Nat → Int32) × (Nat → Int32) × (Nat → Int32) × (Nat → Nat → Int32)) => (∃ n1_e : Nat, ∃ st1_e : Nat, ∃ mm1_e : Nat, ∃ h1_e : Nat → Int32, ∃ c1_e : Nat → Int32, ∃ K1_e : Nat → Nat → Int32, ∃ cn_e : Nat, r = 1 ∧ rdA b sz (n, st, mm, ia 11, ia 12, K) = .ok ((n1_e, st1_e, mm1_e, h1_e, c1_e, K1_e), cn_e) ∧ n1_e ≤ 7 ∧ nI (n1_e) = u.1 ∧ nI (st1_e) = u.2.1 ∧ nI (mm1_e) = u.2.2.1 ∧ h1_e = u.2.2.2.2.2.2.2.2.2.2.1 ∧ c1_e = u.2.2.2.2.2.2.2.2.2.2.2.1 ∧ K1_e = u.2.2.2.2.2.2.2.2.2.2.2.2 ∧ nI (cn_e) = u.2.2.2.1) ∨ (∃ f_e : Nat, r = 0 ∧ rdA b sz (n, st, mm, ia 11, ia 12, K) = .error f_e ∧ nI (f_e) = u.2.2.2.2.2.2.2.2.1)) (fun (u : Int32 × Int32 × Int32 × Int32 × Int32 × Int32 × Int32 × Int32 × Int32 × (Nat → Int32) × (Nat → Int32) × (Nat → Int32) × (Nat → Nat → Int32)) => mW E ad kp tr (va_up (va_up (va_up (va_up (va_up (va_up (va_up (va_up (va_up iv 10 u.1) 14 u.2.1) 15 u.2.2.1) 22 u.2.2.2.2.1) 23 u.2.2.2.2.2.1) 24 u.2.2.2.2.2.2.1) 25 u.2.2.2.2.2.2.2.1) 26 u.2.2.2.2.2.2.2.2.1) 28 u.2.2.2.1) (va_up (va_up (va_up ia 11 u.2.2.2.2.2.2.2.2.2.2.1) 12 u.2.2.2.2.2.2.2.2.2.2.2.1) 27 u.2.2.2.2.2.2.2.2.2.1) u.2.2.2.2.2.2.2.2.2.2.2.2 R mv) := by
  have hz0 : 0 ≤ sz := Nat.zero_le _
  have hn0 := nx_le (b := b) hz0
  refine CtI.of (by decide +kernel) (Nat.le_of_ble_eq_true rfl) ?_
  intro pR eR sR mR aR bR tR cR AR ls QR hxR hbR hmlR hts hown hlk hnm hA hK hI hl hret
  have hl : lv_has ls 1 [(0, .ref (ad 45))] := hl
  refine lv_aload_n hxR hbR dX5_readAll_0 rfl (lv_at hl 0 rfl) ?_
  refine lv_iconst (v := 1) hxR hbR dX5_readAll_1 (by decide) ?_
  refine r_put (v := .int 1) (ws1 := mW E ad kp tr (va_up iv 28 1) ia K R mv) hxR hbR hts hown hK hI okX5 (ci := 5) rfl 16 mW_o 28 (by decide) q1506 rfl rfl rfl rfl (Nat.le_of_ble_eq_true rfl) mW_i28 dX5_readAll_2 (fun H locs hI => ?_)
  refine lv_aload_n hxR hbR dX5_readAll_5 rfl (lv_at hl 0 rfl) ?_
  refine lv_iconst (v := 0) hxR hbR dX5_readAll_6 (by decide) ?_
  refine r_put (v := .int 0) (ws1 := mW E ad kp tr (va_up (va_up iv 22 0) 28 1) ia K R mv) hxR hbR hts hown hK hI okX5 (ci := 5) rfl 16 mW_o 22 (by decide) q1500 rfl rfl rfl rfl (Nat.le_of_ble_eq_true rfl) (Eq.trans mW_i22 (mW_c1 (up_s (by decide) rfl))) dX5_readAll_7 (fun H locs hI => ?_)
  refine lv_aload_n hxR hbR dX5_readAll_10 rfl (lv_at hl 0 rfl) ?_
  refine kVV (n := 0) (As := []) (rest := []) (fun w => w) hxR hbR hmlR hts hown hK hA hl.1 isCtx.id hI (c5_look l E ad kp tr (va_up (va_up iv 22 0) 28 1) ia K R mv b sz 0 (up_n (by decide) (up_n (by decide) hsz)) (by first | omega | with_reducible assumption) (tpOk.of rfl htp) (up_n (by decide) va_up_s) (by first | omega | with_reducible assumption)) (lw_V q1776 q1778 qs53 q86 q1779) ⟨rfl, by decide +kernel⟩ 16 5 rfl rfl mW_o rfl (Nat.le_of_ble_eq_true rfl) (Nat.le_of_ble_eq_true rfl) ⟨Nat.le_of_ble_eq_true rfl, Nat.le_of_ble_eq_true rfl⟩ (Nat.le_of_ble_eq_true rfl) dX5_readAll_11 (fun u H locs hp hI hz => ?_)
  have hI : wI E AR sR H locs (mW E ad kp tr (va_up (va_up (va_up (va_up (va_up (va_up iv 22 0) 28 1) 22 (nI (nx b sz 0))) 23 (nI (kd b sz 0))) 24 (nI (fr b sz 0))) 25 (nI (fg b sz 0))) ia K R mv) := hI
  have hI := wI_w (ws' := mW E ad kp tr (va_up (va_up (va_up (va_up (va_up iv 22 (nI (nx b sz 0))) 23 (nI (kd b sz 0))) 24 (nI (fr b sz 0))) 25 (nI (fg b sz 0))) 28 1) ia K R mv) (by rw [(show (va_up (va_up (va_up (va_up (va_up iv 22 (nI (nx b sz 0))) 23 (nI (kd b sz 0))) 24 (nI (fr b sz 0))) 25 (nI (fg b sz 0))) 28 1) = (va_up (va_up (va_up (va_up (va_up (va_up iv 22 0) 28 1) 22 (nI (nx b sz 0))) 23 (nI (kd b sz 0))) 24 (nI (fr b sz 0))) 25 (nI (fg b sz 0))) from ((Eq.trans (congrArg (fun z => va_up z 25 (nI (fg b sz 0))) (Eq.trans (congrArg (fun z => va_up z 24 (nI (fr b sz 0))) (Eq.trans (congrArg (fun z => va_up z 23 (nI (kd b sz 0))) (up_s (by decide) up_0)) (up_s (by decide) rfl))) (up_s (by decide) rfl))) (up_s (by decide) rfl))).symm)]) hI
  have hI : wI E AR sR H locs (mW E ad kp tr (va_up (va_up (va_up (va_up (va_up iv 22 (nI (nx b sz 0))) 23 (nI (kd b sz 0))) 24 (nI (fr b sz 0))) 25 (nI (fg b sz 0))) 28 1) ia K R mv) := hI
  refine lv_aload_n hxR hbR dX5_readAll_14 rfl (lv_at hl 0 rfl) ?_
  refine kVI (n := 0) (As := []) (rest := []) (fun w => w) hxR hbR hmlR hts hown hK hA hl.1 isCtx.id hI (c5_statement l E ad kp tr (va_up (va_up (va_up (va_up (va_up iv 22 (nI (nx b sz 0))) 23 (nI (kd b sz 0))) 24 (nI (fr b sz 0))) 25 (nI (fg b sz 0))) 28 1) ia K R mv b sz 0 n st mm (up_n (by decide) (up_n (by decide) (up_n (by decide) (up_n (by decide) (up_n (by decide) hsz))))) (by first | omega | with_reducible assumption) (tpOk.of rfl htp) (up_n (by decide) (up_n (by decide) (up_n (by decide) (up_n (by decide) va_up_s)))) (up_n (by decide) (up_n (by decide) (up_n (by decide) va_up_s))) (up_n (by decide) (up_n (by decide) va_up_s)) (up_n (by decide) va_up_s) (by first | omega | with_reducible assumption) (up_n (by decide) (up_n (by decide) (up_n (by decide) (up_n (by decide) (up_n (by decide) hn))))) (by first | omega | with_reducible assumption) (up_n (by decide) (up_n (by decide) (up_n (by decide) (up_n (by decide) (up_n (by decide) hst))))) (up_n (by decide) (up_n (by decide) (up_n (by decide) (up_n (by decide) (up_n (by decide) hmm)))))) (lw_V q1787 q1789 qs54 q86 q1790) ⟨rfl, by decide +kernel⟩ 16 5 rfl rfl mW_o rfl (Nat.le_of_ble_eq_true rfl) (Nat.le_of_ble_eq_true rfl) ⟨Nat.le_of_ble_eq_true rfl, Nat.le_of_ble_eq_true rfl⟩ (Nat.le_of_ble_eq_true rfl) dX5_readAll_15 (fun r_15 u H locs hp hI hz => ?_)
  obtain ⟨c10_15, c14_15, c15_15, c22_15, c23_15, c24_15, c25_15, c26_15, g27_15, g11_15, g12_15, K2_15⟩ := u
  have hI : wI E AR sR H locs (mW E ad kp tr (va_up (va_up (va_up (va_up (va_up (va_up (va_up (va_up (va_up (va_up (va_up (va_up (va_up iv 22 (nI (nx b sz 0))) 23 (nI (kd b sz 0))) 24 (nI (fr b sz 0))) 25 (nI (fg b sz 0))) 28 1) 10 c10_15) 14 c14_15) 15 c15_15) 22 c22_15) 23 c23_15) 24 c24_15) 25 c25_15) 26 c26_15) (va_up (va_up (va_up ia 11 g11_15) 12 g12_15) 27 g27_15) K2_15 R mv) := hI
  have hI := wI_w (ws' := mW E ad kp tr (va_up (va_up (va_up (va_up (va_up (va_up (va_up (va_up (va_up iv 10 c10_15) 14 c14_15) 15 c15_15) 22 c22_15) 23 c23_15) 24 c24_15) 25 c25_15) 26 c26_15) 28 1) (va_up (va_up (va_up ia 11 g11_15) 12 g12_15) 27 g27_15) K2_15 R mv) (by rw [(show (va_up (va_up (va_up (va_up (va_up (va_up (va_up (va_up (va_up iv 10 c10_15) 14 c14_15) 15 c15_15) 22 c22_15) 23 c23_15) 24 c24_15) 25 c25_15) 26 c26_15) 28 1) = (va_up (va_up (va_up (va_up (va_up (va_up (va_up (va_up (va_up (va_up (va_up (va_up (va_up iv 22 (nI (nx b sz 0))) 23 (nI (kd b sz 0))) 24 (nI (fr b sz 0))) 25 (nI (fg b sz 0))) 28 1) 10 c10_15) 14 c14_15) 15 c15_15) 22 c22_15) 23 c23_15) 24 c24_15) 25 c25_15) 26 c26_15) from ((Eq.trans (congrArg (fun z => va_up z 26 c26_15) (Eq.trans (congrArg (fun z => va_up z 25 c25_15) (Eq.trans (congrArg (fun z => va_up z 24 c24_15) (Eq.trans (congrArg (fun z => va_up z 23 c23_15) (Eq.trans (congrArg (fun z => va_up z 22 c22_15) (Eq.trans (congrArg (fun z => va_up z 15 c15_15) (Eq.trans (congrArg (fun z => va_up z 14 c14_15) (up_s (by decide) (up_s (by decide) (up_s (by decide) (up_s (by decide) (up_s (by decide) rfl)))))) (up_s (by decide) (up_s (by decide) (up_s (by decide) (up_s (by decide) (up_s (by decide) rfl))))))) (up_s (by decide) (up_s (by decide) (up_s (by decide) (up_s (by decide) (up_s (by decide) rfl))))))) (up_s (by decide) (up_s (by decide) (up_s (by decide) (up_s (by decide) up_0)))))) (up_s (by decide) (up_s (by decide) (up_s (by decide) up_0))))) (up_s (by decide) (up_s (by decide) up_0)))) (up_s (by decide) up_0))) (up_s (by decide) rfl))).symm)]) hI
  have hI : wI E AR sR H locs (mW E ad kp tr (va_up (va_up (va_up (va_up (va_up (va_up (va_up (va_up (va_up iv 10 c10_15) 14 c14_15) 15 c15_15) 22 c22_15) 23 c23_15) 24 c24_15) 25 c25_15) 26 c26_15) 28 1) (va_up (va_up (va_up ia 11 g11_15) 12 g12_15) 27 g27_15) K2_15 R mv) := hI
  have hp : (∃ n1_e : Nat, ∃ st1_e : Nat, ∃ mm1_e : Nat, ∃ h1_e : Nat → Int32, ∃ c1_e : Nat → Int32, ∃ K1_e : Nat → Nat → Int32, ∃ p_e : Nat, r_15 = 1 ∧ stm b sz n st mm (ia 11) (ia 12) K 0 = .ok ((n1_e, st1_e, mm1_e, h1_e, c1_e, K1_e), p_e) ∧ nI (n1_e) = c10_15 ∧ nI (st1_e) = c14_15 ∧ nI (mm1_e) = c15_15 ∧ h1_e = g11_15 ∧ c1_e = g12_15 ∧ K1_e = K2_15 ∧ nI (nx b sz p_e) = c22_15 ∧ nI (kd b sz p_e) = c23_15 ∧ nI (fr b sz p_e) = c24_15 ∧ nI (fg b sz p_e) = c25_15) ∨ (∃ f_e : Nat, r_15 = 0 ∧ stm b sz n st mm (ia 11) (ia 12) K 0 = .error f_e ∧ nI (f_e) = c26_15) := hp
  have h2_15 := hp
  rcases h2_15 with ⟨n1_15, st1_15, mm1_15, h1_15, c1_15, K1_15, p_15, rfl, f0_15, rfl, rfl, rfl, rfl, rfl, rfl, rfl, rfl, rfl, rfl⟩ | ⟨f_15, rfl, f0_15, rfl⟩
  · skip
    have f0_15 : stm b sz n st mm (ia 11) (ia 12) K 0 = .ok ((n1_15, st1_15, mm1_15, h1_15, c1_15, K1_15), p_15) := f0_15
    have hI : wI E AR sR H locs (mW E ad kp tr (va_up (va_up (va_up (va_up (va_up (va_up (va_up (va_up (va_up iv 10 (nI n1_15)) 14 (nI st1_15)) 15 (nI mm1_15)) 22 (nI (nx b sz p_15))) 23 (nI (kd b sz p_15))) 24 (nI (fr b sz p_15))) 25 (nI (fg b sz p_15))) 26 c26_15) 28 1) (va_up (va_up (va_up ia 11 h1_15) 12 c1_15) 27 g27_15) K1_15 R mv) := hI
    obtain ⟨-, hp15, hn15⟩ := stm_p f0_15 hz0 hn7
    refine lv_if_ne (tgt := 23) hxR hbR dX5_readAll_18 (by decide) (fun _ => ?_) (fun c => absurd c (by decide))
    have lp_23 : ∀ (fu : Nat) (n1 : Nat) (st1 : Nat) (mm1 : Nat) (cnt : Nat) (h1 : Nat → Int32) (c1 : Nat → Int32) (K1 : Nat → Nat → Int32) (p : Nat) (q22 : Nat) (q23 : Nat) (q24 : Nat) (q25 : Nat) (c26 : Int32) (g27 : Nat → Int32), (q22 = nx b sz p) → (q23 = kd b sz p) → (q24 = fr b sz p) → (q25 = fg b sz p) → (p ≤ sz) → (n1 ≤ 7) → (rdF b sz (sz + 1 - p) (n1, st1, mm1, h1, c1, K1) p cnt = rdA b sz (n, st, mm, ia 11, ia 12, K)) → sz - p < fu → ∀ (H : Heap) (locs : List Loc), wI E AR sR H locs (mW E ad kp tr (va_up (va_up (va_up (va_up (va_up (va_up (va_up (va_up (va_up iv 10 (nI n1)) 14 (nI st1)) 15 (nI mm1)) 22 (nI q22)) 23 (nI q23)) 24 (nI q24)) 25 (nI q25)) 26 c26) 28 (nI cnt)) (va_up (va_up (va_up ia 11 h1) 12 c1) 27 g27) K1 R mv) → ∀ ls : Array Slot, lv_has ls 1 [(0, .ref (ad 45))] → W pR l eR (rmF 14 0 0) sR mR aR bR tR cR H locs 0 0 QR (F0 mR 23 ls []) := by
      intro fu
      induction fu with
      | zero =>
        intro n1 st1 mm1 cnt h1 c1 K1 p q22 q23 q24 q25 c26 g27 hq22 hq23 hq24 hq25 hps hn17 hR hfu
        exact absurd hfu (Nat.not_lt_zero _)
      | succ fu ih_23 =>
        intro n1 st1 mm1 cnt h1 c1 K1 p q22 q23 q24 q25 c26 g27 hq22 hq23 hq24 hq25 hps hn17 hR hfu H locs hI ls hl
        subst hq22 hq23 hq24 hq25
        have hfa1 := fr_le (b := b) hps
        have hna1 := nx_le (b := b) hps
        have hga1 := fg_le htp.lt hps
        have hka1 := kd_lt (b := b) (sz := sz) (a := p)
        refine lv_aload_n hxR hbR dX5_readAll_23 rfl (lv_at hl 0 rfl) ?_
        refine r_get hxR hbR hts hown hK hI okX5 (ci := 5) rfl 16 mW_o 23 (by decide) q1501 rfl (v := .int (nI (kd b sz p))) (al (up_n (by decide) (up_n (by decide) (up_n (by decide) (up_n (by decide) va_up_s))))) dX5_readAll_24 ?_
        refine lv_if_eq (tgt := 69) hxR hbR dX5_readAll_27 (by decide) (fun c_27 => ?_) (fun c_27 => ?_)
        · skip
          have c_27 : (kd b sz p) = 0 := (n_eq (a := (kd b sz p)) (b := 0) (by omega) (by omega)).mp c_27
          refine lv_iconst (v := 1) hxR hbR dX5_readAll_69 (by decide) ?_
          have hI : wI E AR sR H locs (mW E ad kp tr (va_up (va_up (va_up (va_up (va_up (va_up (va_up (va_up (va_up iv 10 (nI n1)) 14 (nI st1)) 15 (nI mm1)) 22 (nI (nx b sz p))) 23 (nI (kd b sz p))) 24 (nI (fr b sz p))) 25 (nI (fg b sz p))) 26 c26) 28 (nI cnt)) (va_up (va_up (va_up ia 11 h1) 12 c1) 27 g27) K1 R mv) := hI
          exact hret (nI n1, nI st1, nI mm1, nI cnt, nI (nx b sz p), nI (kd b sz p), nI (fr b sz p), nI (fg b sz p), c26, g27, h1, c1, K1) 1 _ _ 0 0 _ _ dX5_readAll_70 hI (by show (∃ n1_e : Nat, ∃ st1_e : Nat, ∃ mm1_e : Nat, ∃ h1_e : Nat → Int32, ∃ c1_e : Nat → Int32, ∃ K1_e : Nat → Nat → Int32, ∃ cn_e : Nat, 1 = 1 ∧ rdA b sz (n, st, mm, ia 11, ia 12, K) = .ok ((n1_e, st1_e, mm1_e, h1_e, c1_e, K1_e), cn_e) ∧ n1_e ≤ 7 ∧ nI (n1_e) = (nI n1) ∧ nI (st1_e) = (nI st1) ∧ nI (mm1_e) = (nI mm1) ∧ h1_e = h1 ∧ c1_e = c1 ∧ K1_e = K1 ∧ nI (cn_e) = (nI cnt)) ∨ (∃ f_e : Nat, 1 = 0 ∧ rdA b sz (n, st, mm, ia 11, ia 12, K) = .error f_e ∧ nI (f_e) = c26); exact Or.inl ⟨_, _, _, _, _, _, _, rfl, (hR.symm.trans (rdF_0 c_27)), hn17, rfl, rfl, rfl, rfl, rfl, rfl, rfl⟩) (Nat.le_of_ble_eq_true rfl) (Nat.le_of_ble_eq_true rfl) rfl
        · skip
          have c_27 : ¬ (kd b sz p) = 0 := fun zz => c_27 ((n_eq (a := (kd b sz p)) (b := 0) (by omega) (by omega)).mpr zz)
          refine lv_aload_n hxR hbR dX5_readAll_30 rfl (lv_at hl 0 rfl) ?_
          refine r_get hxR hbR hts hown hK hI okX5 (ci := 5) rfl 16 mW_o 23 (by decide) q1501 rfl (v := .int (nI (kd b sz p))) (al (up_n (by decide) (up_n (by decide) (up_n (by decide) (up_n (by decide) va_up_s))))) dX5_readAll_31 ?_
          refine lv_iconst (v := 3) hxR hbR dX5_readAll_34 (by decide) ?_
          refine lv_icmp_eq (tgt := 43) hxR hbR dX5_readAll_35 (by decide) (fun c_35 => ?_) (fun c_35 => ?_)
          · skip
            have c_35 : (kd b sz p) = 3 := (n_eq (a := (kd b sz p)) (b := 3) (by omega) (by omega)).mp c_35
            refine lv_aload_n hxR hbR dX5_readAll_43 rfl (lv_at hl 0 rfl) ?_
            refine kVV (n := 0) (As := []) (rest := []) (fun w => w) hxR hbR hmlR hts hown hK hA hl.1 isCtx.id hI (c5_look l E ad kp tr (va_up (va_up (va_up (va_up (va_up (va_up (va_up (va_up (va_up iv 10 (nI n1)) 14 (nI st1)) 15 (nI mm1)) 22 (nI (nx b sz p))) 23 (nI (kd b sz p))) 24 (nI (fr b sz p))) 25 (nI (fg b sz p))) 26 c26) 28 (nI cnt)) (va_up (va_up (va_up ia 11 h1) 12 c1) 27 g27) K1 R mv b sz (nx b sz p) (up_n (by decide) (up_n (by decide) (up_n (by decide) (up_n (by decide) (up_n (by decide) (up_n (by decide) (up_n (by decide) (up_n (by decide) (up_n (by decide) hsz))))))))) (by first | omega | with_reducible assumption) (tpOk.of (up_n (by decide) (up_n (by decide) (up_n (by decide) rfl))) htp) (up_n (by decide) (up_n (by decide) (up_n (by decide) (up_n (by decide) (up_n (by decide) va_up_s))))) (by first | omega | with_reducible assumption)) (lw_V q1776 q1778 qs53 q86 q1779) ⟨rfl, by decide +kernel⟩ 16 5 rfl rfl mW_o rfl (Nat.le_of_ble_eq_true rfl) (Nat.le_of_ble_eq_true rfl) ⟨Nat.le_of_ble_eq_true rfl, Nat.le_of_ble_eq_true rfl⟩ (Nat.le_of_ble_eq_true rfl) dX5_readAll_44 (fun u H locs hp hI hz => ?_)
            have hI : wI E AR sR H locs (mW E ad kp tr (va_up (va_up (va_up (va_up (va_up (va_up (va_up (va_up (va_up (va_up (va_up (va_up (va_up iv 10 (nI n1)) 14 (nI st1)) 15 (nI mm1)) 22 (nI (nx b sz p))) 23 (nI (kd b sz p))) 24 (nI (fr b sz p))) 25 (nI (fg b sz p))) 26 c26) 28 (nI cnt)) 22 (nI (nx b sz (nx b sz p)))) 23 (nI (kd b sz (nx b sz p)))) 24 (nI (fr b sz (nx b sz p)))) 25 (nI (fg b sz (nx b sz p)))) (va_up (va_up (va_up ia 11 h1) 12 c1) 27 g27) K1 R mv) := hI
            have hI := wI_w (ws' := mW E ad kp tr (va_up (va_up (va_up (va_up (va_up (va_up (va_up (va_up (va_up iv 10 (nI n1)) 14 (nI st1)) 15 (nI mm1)) 22 (nI (nx b sz (nx b sz p)))) 23 (nI (kd b sz (nx b sz p)))) 24 (nI (fr b sz (nx b sz p)))) 25 (nI (fg b sz (nx b sz p)))) 26 c26) 28 (nI cnt)) (va_up (va_up (va_up ia 11 h1) 12 c1) 27 g27) K1 R mv) (by rw [(show (va_up (va_up (va_up (va_up (va_up (va_up (va_up (va_up (va_up iv 10 (nI n1)) 14 (nI st1)) 15 (nI mm1)) 22 (nI (nx b sz (nx b sz p)))) 23 (nI (kd b sz (nx b sz p)))) 24 (nI (fr b sz (nx b sz p)))) 25 (nI (fg b sz (nx b sz p)))) 26 c26) 28 (nI cnt)) = (va_up (va_up (va_up (va_up (va_up (va_up (va_up (va_up (va_up (va_up (va_up (va_up (va_up iv 10 (nI n1)) 14 (nI st1)) 15 (nI mm1)) 22 (nI (nx b sz p))) 23 (nI (kd b sz p))) 24 (nI (fr b sz p))) 25 (nI (fg b sz p))) 26 c26) 28 (nI cnt)) 22 (nI (nx b sz (nx b sz p)))) 23 (nI (kd b sz (nx b sz p)))) 24 (nI (fr b sz (nx b sz p)))) 25 (nI (fg b sz (nx b sz p)))) from ((Eq.trans (congrArg (fun z => va_up z 25 (nI (fg b sz (nx b sz p)))) (Eq.trans (congrArg (fun z => va_up z 24 (nI (fr b sz (nx b sz p)))) (Eq.trans (congrArg (fun z => va_up z 23 (nI (kd b sz (nx b sz p)))) (up_s (by decide) (up_s (by decide) (up_s (by decide) (up_s (by decide) (up_s (by decide) up_0)))))) (up_s (by decide) (up_s (by decide) (up_s (by decide) (up_s (by decide) up_0)))))) (up_s (by decide) (up_s (by decide) (up_s (by decide) up_0))))) (up_s (by decide) (up_s (by decide) up_0)))).symm)]) hI
            have hI : wI E AR sR H locs (mW E ad kp tr (va_up (va_up (va_up (va_up (va_up (va_up (va_up (va_up (va_up iv 10 (nI n1)) 14 (nI st1)) 15 (nI mm1)) 22 (nI (nx b sz (nx b sz p)))) 23 (nI (kd b sz (nx b sz p)))) 24 (nI (fr b sz (nx b sz p)))) 25 (nI (fg b sz (nx b sz p)))) 26 c26) 28 (nI cnt)) (va_up (va_up (va_up ia 11 h1) 12 c1) 27 g27) K1 R mv) := hI
            refine lv_aload_n hxR hbR dX5_readAll_47 rfl (lv_at hl 0 rfl) ?_
            refine kVI (n := 0) (As := []) (rest := []) (fun w => w) hxR hbR hmlR hts hown hK hA hl.1 isCtx.id hI (c5_statement l E ad kp tr (va_up (va_up (va_up (va_up (va_up (va_up (va_up (va_up (va_up iv 10 (nI n1)) 14 (nI st1)) 15 (nI mm1)) 22 (nI (nx b sz (nx b sz p)))) 23 (nI (kd b sz (nx b sz p)))) 24 (nI (fr b sz (nx b sz p)))) 25 (nI (fg b sz (nx b sz p)))) 26 c26) 28 (nI cnt)) (va_up (va_up (va_up ia 11 h1) 12 c1) 27 g27) K1 R mv b sz (nx b sz p) n1 st1 mm1 (up_n (by decide) (up_n (by decide) (up_n (by decide) (up_n (by decide) (up_n (by decide) (up_n (by decide) (up_n (by decide) (up_n (by decide) (up_n (by decide) hsz))))))))) (by first | omega | with_reducible assumption) (tpOk.of (up_n (by decide) (up_n (by decide) (up_n (by decide) rfl))) htp) (up_n (by decide) (up_n (by decide) (up_n (by decide) (up_n (by decide) (up_n (by decide) va_up_s))))) (up_n (by decide) (up_n (by decide) (up_n (by decide) (up_n (by decide) va_up_s)))) (up_n (by decide) (up_n (by decide) (up_n (by decide) va_up_s))) (up_n (by decide) (up_n (by decide) va_up_s)) (by first | omega | with_reducible assumption) (up_n (by decide) (up_n (by decide) (up_n (by decide) (up_n (by decide) (up_n (by decide) (up_n (by decide) (up_n (by decide) (up_n (by decide) va_up_s)))))))) (by first | omega | with_reducible assumption) (up_n (by decide) (up_n (by decide) (up_n (by decide) (up_n (by decide) (up_n (by decide) (up_n (by decide) (up_n (by decide) va_up_s))))))) (up_n (by decide) (up_n (by decide) (up_n (by decide) (up_n (by decide) (up_n (by decide) (up_n (by decide) va_up_s))))))) (lw_V q1787 q1789 qs54 q86 q1790) ⟨rfl, by decide +kernel⟩ 16 5 rfl rfl mW_o rfl (Nat.le_of_ble_eq_true rfl) (Nat.le_of_ble_eq_true rfl) ⟨Nat.le_of_ble_eq_true rfl, Nat.le_of_ble_eq_true rfl⟩ (Nat.le_of_ble_eq_true rfl) dX5_readAll_48 (fun r_48 u H locs hp hI hz => ?_)
            obtain ⟨c10_48, c14_48, c15_48, c22_48, c23_48, c24_48, c25_48, c26_48, g27_48, g11_48, g12_48, K2_48⟩ := u
            have hI : wI E AR sR H locs (mW E ad kp tr (va_up (va_up (va_up (va_up (va_up (va_up (va_up (va_up (va_up (va_up (va_up (va_up (va_up (va_up (va_up (va_up (va_up iv 10 (nI n1)) 14 (nI st1)) 15 (nI mm1)) 22 (nI (nx b sz (nx b sz p)))) 23 (nI (kd b sz (nx b sz p)))) 24 (nI (fr b sz (nx b sz p)))) 25 (nI (fg b sz (nx b sz p)))) 26 c26) 28 (nI cnt)) 10 c10_48) 14 c14_48) 15 c15_48) 22 c22_48) 23 c23_48) 24 c24_48) 25 c25_48) 26 c26_48) (va_up (va_up (va_up (va_up (va_up (va_up ia 11 h1) 12 c1) 27 g27) 11 g11_48) 12 g12_48) 27 g27_48) K2_48 R mv) := hI
            have hI := wI_w (ws' := mW E ad kp tr (va_up (va_up (va_up (va_up (va_up (va_up (va_up (va_up (va_up iv 10 c10_48) 14 c14_48) 15 c15_48) 22 c22_48) 23 c23_48) 24 c24_48) 25 c25_48) 26 c26_48) 28 (nI cnt)) (va_up (va_up (va_up ia 11 g11_48) 12 g12_48) 27 g27_48) K2_48 R mv) (by rw [(show (va_up (va_up (va_up (va_up (va_up (va_up (va_up (va_up (va_up iv 10 c10_48) 14 c14_48) 15 c15_48) 22 c22_48) 23 c23_48) 24 c24_48) 25 c25_48) 26 c26_48) 28 (nI cnt)) = (va_up (va_up (va_up (va_up (va_up (va_up (va_up (va_up (va_up (va_up (va_up (va_up (va_up (va_up (va_up (va_up (va_up iv 10 (nI n1)) 14 (nI st1)) 15 (nI mm1)) 22 (nI (nx b sz (nx b sz p)))) 23 (nI (kd b sz (nx b sz p)))) 24 (nI (fr b sz (nx b sz p)))) 25 (nI (fg b sz (nx b sz p)))) 26 c26) 28 (nI cnt)) 10 c10_48) 14 c14_48) 15 c15_48) 22 c22_48) 23 c23_48) 24 c24_48) 25 c25_48) 26 c26_48) from ((Eq.trans (congrArg (fun z => va_up z 26 c26_48) (Eq.trans (congrArg (fun z => va_up z 25 c25_48) (Eq.trans (congrArg (fun z => va_up z 24 c24_48) (Eq.trans (congrArg (fun z => va_up z 23 c23_48) (Eq.trans (congrArg (fun z => va_up z 22 c22_48) (Eq.trans (congrArg (fun z => va_up z 15 c15_48) (Eq.trans (congrArg (fun z => va_up z 14 c14_48) (up_s (by decide) (up_s (by decide) (up_s (by decide) (up_s (by decide) (up_s (by decide) (up_s (by decide) (up_s (by decide) (up_s (by decide) up_0))))))))) (up_s (by decide) (up_s (by decide) (up_s (by decide) (up_s (by decide) (up_s (by decide) (up_s (by decide) (up_s (by decide) up_0))))))))) (up_s (by decide) (up_s (by decide) (up_s (by decide) (up_s (by decide) (up_s (by decide) (up_s (by decide) up_0)))))))) (up_s (by decide) (up_s (by decide) (up_s (by decide) (up_s (by decide) (up_s (by decide) up_0))))))) (up_s (by decide) (up_s (by decide) (up_s (by decide) (up_s (by decide) up_0)))))) (up_s (by decide) (up_s (by decide) (up_s (by decide) up_0))))) (up_s (by decide) (up_s (by decide) up_0)))) (up_s (by decide) up_0))).symm), (show (va_up (va_up (va_up ia 11 g11_48) 12 g12_48) 27 g27_48) = (va_up (va_up (va_up (va_up (va_up (va_up ia 11 h1) 12 c1) 27 g27) 11 g11_48) 12 g12_48) 27 g27_48) from ((Eq.trans (congrArg (fun z => va_up z 27 g27_48) (Eq.trans (congrArg (fun z => va_up z 12 g12_48) (up_s (by decide) (up_s (by decide) up_0))) (up_s (by decide) up_0))) up_0)).symm)]) hI
            have hI : wI E AR sR H locs (mW E ad kp tr (va_up (va_up (va_up (va_up (va_up (va_up (va_up (va_up (va_up iv 10 c10_48) 14 c14_48) 15 c15_48) 22 c22_48) 23 c23_48) 24 c24_48) 25 c25_48) 26 c26_48) 28 (nI cnt)) (va_up (va_up (va_up ia 11 g11_48) 12 g12_48) 27 g27_48) K2_48 R mv) := hI
            have hp : (∃ n1_e : Nat, ∃ st1_e : Nat, ∃ mm1_e : Nat, ∃ h1_e : Nat → Int32, ∃ c1_e : Nat → Int32, ∃ K1_e : Nat → Nat → Int32, ∃ p_e : Nat, r_48 = 1 ∧ stm b sz n1 st1 mm1 (h1) (c1) K1 (nx b sz p) = .ok ((n1_e, st1_e, mm1_e, h1_e, c1_e, K1_e), p_e) ∧ nI (n1_e) = c10_48 ∧ nI (st1_e) = c14_48 ∧ nI (mm1_e) = c15_48 ∧ h1_e = g11_48 ∧ c1_e = g12_48 ∧ K1_e = K2_48 ∧ nI (nx b sz p_e) = c22_48 ∧ nI (kd b sz p_e) = c23_48 ∧ nI (fr b sz p_e) = c24_48 ∧ nI (fg b sz p_e) = c25_48) ∨ (∃ f_e : Nat, r_48 = 0 ∧ stm b sz n1 st1 mm1 (h1) (c1) K1 (nx b sz p) = .error f_e ∧ nI (f_e) = c26_48) := hp
            have h2_48 := hp
            rcases h2_48 with ⟨n1_48, st1_48, mm1_48, h1_48, c1_48, K1_48, p_48, rfl, f0_48, rfl, rfl, rfl, rfl, rfl, rfl, rfl, rfl, rfl, rfl⟩ | ⟨f_48, rfl, f0_48, rfl⟩
            · skip
              have f0_48 : stm b sz n1 st1 mm1 (h1) (c1) K1 (nx b sz p) = .ok ((n1_48, st1_48, mm1_48, h1_48, c1_48, K1_48), p_48) := f0_48
              have hI : wI E AR sR H locs (mW E ad kp tr (va_up (va_up (va_up (va_up (va_up (va_up (va_up (va_up (va_up iv 10 (nI n1_48)) 14 (nI st1_48)) 15 (nI mm1_48)) 22 (nI (nx b sz p_48))) 23 (nI (kd b sz p_48))) 24 (nI (fr b sz p_48))) 25 (nI (fg b sz p_48))) 26 c26_48) 28 (nI cnt)) (va_up (va_up (va_up ia 11 h1_48) 12 c1_48) 27 g27_48) K1_48 R mv) := hI
              obtain ⟨hlt48, hp48, hn48⟩ := stm_p f0_48 hna1 hn17
              have hgt := nx_gt (b := b) c_27 hps
              refine lv_if_ne (tgt := 56) hxR hbR dX5_readAll_51 (by decide) (fun _ => ?_) (fun c => absurd c (by decide))
              refine lv_aload_n hxR hbR dX5_readAll_56 rfl (lv_at hl 0 rfl) ?_
              refine lv_dup hxR hbR dX5_readAll_57 rfl ?_
              refine r_get hxR hbR hts hown hK hI okX5 (ci := 5) rfl 16 mW_o 28 (by decide) q1506 rfl (v := .int (nI cnt)) (al va_up_s) dX5_readAll_58 ?_
              refine lv_iconst (v := 1) hxR hbR dX5_readAll_61 (by decide) ?_
              refine lv_iadd hxR hbR dX5_readAll_62 ?_
              refine lv_as (y := nI (cnt + 1)) (nI_add cnt 1) ?_
              refine r_put (v := .int (nI (cnt + 1))) (ws1 := mW E ad kp tr (va_up (va_up (va_up (va_up (va_up (va_up (va_up (va_up (va_up iv 10 (nI n1_48)) 14 (nI st1_48)) 15 (nI mm1_48)) 22 (nI (nx b sz p_48))) 23 (nI (kd b sz p_48))) 24 (nI (fr b sz p_48))) 25 (nI (fg b sz p_48))) 26 c26_48) 28 (nI (cnt + 1))) (va_up (va_up (va_up ia 11 h1_48) 12 c1_48) 27 g27_48) K1_48 R mv) hxR hbR hts hown hK hI okX5 (ci := 5) rfl 16 mW_o 28 (by decide) q1506 rfl rfl rfl rfl (Nat.le_of_ble_eq_true rfl) (Eq.trans mW_i28 (mW_c1 up_0)) dX5_readAll_63 (fun H locs hI => ?_)
              refine lv_goto (tgt := 23) hxR hbR dX5_readAll_66 (by decide) ?_
              exact ih_23 n1_48 st1_48 mm1_48 (cnt + 1) h1_48 c1_48 K1_48 p_48 (nx b sz p_48) (kd b sz p_48) (fr b sz p_48) (fg b sz p_48) c26_48 g27_48 rfl rfl rfl rfl hp48 hn48 (by rw [rdF_3 hps hn17 c_35 f0_48]; exact hR) (by omega) _ _ hI _ (lv_sub hl [0] rfl)
            · skip
              have f0_48 : stm b sz n1 st1 mm1 (h1) (c1) K1 (nx b sz p) = .error f_48 := f0_48
              have hI : wI E AR sR H locs (mW E ad kp tr (va_up (va_up (va_up (va_up (va_up (va_up (va_up (va_up (va_up iv 10 c10_48) 14 c14_48) 15 c15_48) 22 c22_48) 23 c23_48) 24 c24_48) 25 c25_48) 26 (nI f_48)) 28 (nI cnt)) (va_up (va_up (va_up ia 11 g11_48) 12 g12_48) 27 g27_48) K2_48 R mv) := hI
              refine lv_if_ne (tgt := 56) hxR hbR dX5_readAll_51 (by decide) (fun c => absurd c (by decide)) (fun _ => ?_)
              refine lv_iconst (v := 0) hxR hbR dX5_readAll_54 (by decide) ?_
              have hI : wI E AR sR H locs (mW E ad kp tr (va_up (va_up (va_up (va_up (va_up (va_up (va_up (va_up (va_up iv 10 c10_48) 14 c14_48) 15 c15_48) 22 c22_48) 23 c23_48) 24 c24_48) 25 c25_48) 26 (nI f_48)) 28 (nI cnt)) (va_up (va_up (va_up ia 11 g11_48) 12 g12_48) 27 g27_48) K2_48 R mv) := hI
              exact hret (c10_48, c14_48, c15_48, nI cnt, c22_48, c23_48, c24_48, c25_48, nI f_48, g27_48, g11_48, g12_48, K2_48) 0 _ _ 0 0 _ _ dX5_readAll_55 hI (by show (∃ n1_e : Nat, ∃ st1_e : Nat, ∃ mm1_e : Nat, ∃ h1_e : Nat → Int32, ∃ c1_e : Nat → Int32, ∃ K1_e : Nat → Nat → Int32, ∃ cn_e : Nat, 0 = 1 ∧ rdA b sz (n, st, mm, ia 11, ia 12, K) = .ok ((n1_e, st1_e, mm1_e, h1_e, c1_e, K1_e), cn_e) ∧ n1_e ≤ 7 ∧ nI (n1_e) = c10_48 ∧ nI (st1_e) = c14_48 ∧ nI (mm1_e) = c15_48 ∧ h1_e = g11_48 ∧ c1_e = g12_48 ∧ K1_e = K2_48 ∧ nI (cn_e) = (nI cnt)) ∨ (∃ f_e : Nat, 0 = 0 ∧ rdA b sz (n, st, mm, ia 11, ia 12, K) = .error f_e ∧ nI (f_e) = (nI f_48)); exact Or.inr ⟨_, rfl, (hR.symm.trans (rdF_2 hps c_35 f0_48)), rfl⟩) (Nat.le_of_ble_eq_true rfl) (Nat.le_of_ble_eq_true rfl) rfl
          · skip
            have c_35 : ¬ (kd b sz p) = 3 := fun zz => c_35 ((n_eq (a := (kd b sz p)) (b := 3) (by omega) (by omega)).mpr zz)
            refine lv_aload_n hxR hbR dX5_readAll_38 rfl (lv_at hl 0 rfl) ?_
            refine kVI (n := 0) (As := []) (rest := []) (fun w => w) hxR hbR hmlR hts hown hK hA hl.1 isCtx.id hI (c5_wrong l E ad kp tr (va_up (va_up (va_up (va_up (va_up (va_up (va_up (va_up (va_up iv 10 (nI n1)) 14 (nI st1)) 15 (nI mm1)) 22 (nI (nx b sz p))) 23 (nI (kd b sz p))) 24 (nI (fr b sz p))) 25 (nI (fg b sz p))) 26 c26) 28 (nI cnt)) (va_up (va_up (va_up ia 11 h1) 12 c1) 27 g27) K1 R mv  ) (lw_V q1823 q1825 qs58 q86 q1826) ⟨rfl, by decide +kernel⟩ 16 5 rfl rfl mW_o rfl (Nat.le_of_ble_eq_true rfl) (Nat.le_of_ble_eq_true rfl) ⟨Nat.le_of_ble_eq_true rfl, Nat.le_of_ble_eq_true rfl⟩ (Nat.le_of_ble_eq_true rfl) dX5_readAll_39 (fun r_39 u H locs hp hI hz => ?_)
            have hI : wI E AR sR H locs (mW E ad kp tr (va_up (va_up (va_up (va_up (va_up (va_up (va_up (va_up (va_up (va_up iv 10 (nI n1)) 14 (nI st1)) 15 (nI mm1)) 22 (nI (nx b sz p))) 23 (nI (kd b sz p))) 24 (nI (fr b sz p))) 25 (nI (fg b sz p))) 26 c26) 28 (nI cnt)) 26 (nI (fr b sz p))) (va_up (va_up (va_up ia 11 h1) 12 c1) 27 g27) K1 R mv) := hI
            have hI := wI_w (ws' := mW E ad kp tr (va_up (va_up (va_up (va_up (va_up (va_up (va_up (va_up (va_up iv 10 (nI n1)) 14 (nI st1)) 15 (nI mm1)) 22 (nI (nx b sz p))) 23 (nI (kd b sz p))) 24 (nI (fr b sz p))) 25 (nI (fg b sz p))) 26 (nI (fr b sz p))) 28 (nI cnt)) (va_up (va_up (va_up ia 11 h1) 12 c1) 27 g27) K1 R mv) (by rw [(show (va_up (va_up (va_up (va_up (va_up (va_up (va_up (va_up (va_up iv 10 (nI n1)) 14 (nI st1)) 15 (nI mm1)) 22 (nI (nx b sz p))) 23 (nI (kd b sz p))) 24 (nI (fr b sz p))) 25 (nI (fg b sz p))) 26 (nI (fr b sz p))) 28 (nI cnt)) = (va_up (va_up (va_up (va_up (va_up (va_up (va_up (va_up (va_up (va_up iv 10 (nI n1)) 14 (nI st1)) 15 (nI mm1)) 22 (nI (nx b sz p))) 23 (nI (kd b sz p))) 24 (nI (fr b sz p))) 25 (nI (fg b sz p))) 26 c26) 28 (nI cnt)) 26 (nI (fr b sz p))) from ((up_s (by decide) up_0)).symm)]) hI
            have hI : wI E AR sR H locs (mW E ad kp tr (va_up (va_up (va_up (va_up (va_up (va_up (va_up (va_up (va_up iv 10 (nI n1)) 14 (nI st1)) 15 (nI mm1)) 22 (nI (nx b sz p))) 23 (nI (kd b sz p))) 24 (nI (fr b sz p))) 25 (nI (fg b sz p))) 26 (nI (fr b sz p))) 28 (nI cnt)) (va_up (va_up (va_up ia 11 h1) 12 c1) 27 g27) K1 R mv) := hI
            have hp : r_39 = 0 := hp
            have hr_39 := hp
            subst hr_39
            have hI : wI E AR sR H locs (mW E ad kp tr (va_up (va_up (va_up (va_up (va_up (va_up (va_up (va_up (va_up iv 10 (nI n1)) 14 (nI st1)) 15 (nI mm1)) 22 (nI (nx b sz p))) 23 (nI (kd b sz p))) 24 (nI (fr b sz p))) 25 (nI (fg b sz p))) 26 (nI (fr b sz p))) 28 (nI cnt)) (va_up (va_up (va_up ia 11 h1) 12 c1) 27 g27) K1 R mv) := hI
            exact hret (nI n1, nI st1, nI mm1, nI cnt, nI (nx b sz p), nI (kd b sz p), nI (fr b sz p), nI (fg b sz p), (nI (fr b sz p)), g27, h1, c1, K1) 0 _ _ 0 0 _ _ dX5_readAll_42 hI (by show (∃ n1_e : Nat, ∃ st1_e : Nat, ∃ mm1_e : Nat, ∃ h1_e : Nat → Int32, ∃ c1_e : Nat → Int32, ∃ K1_e : Nat → Nat → Int32, ∃ cn_e : Nat, 0 = 1 ∧ rdA b sz (n, st, mm, ia 11, ia 12, K) = .ok ((n1_e, st1_e, mm1_e, h1_e, c1_e, K1_e), cn_e) ∧ n1_e ≤ 7 ∧ nI (n1_e) = (nI n1) ∧ nI (st1_e) = (nI st1) ∧ nI (mm1_e) = (nI mm1) ∧ h1_e = h1 ∧ c1_e = c1 ∧ K1_e = K1 ∧ nI (cn_e) = (nI cnt)) ∨ (∃ f_e : Nat, 0 = 0 ∧ rdA b sz (n, st, mm, ia 11, ia 12, K) = .error f_e ∧ nI (f_e) = (nI (fr b sz p))); exact Or.inr ⟨_, rfl, (hR.symm.trans (rdF_1 hps c_27 c_35)), rfl⟩) (Nat.le_of_ble_eq_true rfl) (Nat.le_of_ble_eq_true rfl) rfl
    exact lp_23 _ n1_15 st1_15 mm1_15 1 h1_15 c1_15 K1_15 p_15 (nx b sz p_15) (kd b sz p_15) (fr b sz p_15) (fg b sz p_15) c26_15 g27_15 rfl rfl rfl rfl hp15 hn15 (rdA_2 f0_15).symm (Nat.lt_succ_self _) _ _ hI _ (lv_sub hl [0] rfl)
  · skip
    have f0_15 : stm b sz n st mm (ia 11) (ia 12) K 0 = .error f_15 := f0_15
    have hI : wI E AR sR H locs (mW E ad kp tr (va_up (va_up (va_up (va_up (va_up (va_up (va_up (va_up (va_up iv 10 c10_15) 14 c14_15) 15 c15_15) 22 c22_15) 23 c23_15) 24 c24_15) 25 c25_15) 26 (nI f_15)) 28 1) (va_up (va_up (va_up ia 11 g11_15) 12 g12_15) 27 g27_15) K2_15 R mv) := hI
    refine lv_if_ne (tgt := 23) hxR hbR dX5_readAll_18 (by decide) (fun c => absurd c (by decide)) (fun _ => ?_)
    refine lv_iconst (v := 0) hxR hbR dX5_readAll_21 (by decide) ?_
    have hI : wI E AR sR H locs (mW E ad kp tr (va_up (va_up (va_up (va_up (va_up (va_up (va_up (va_up (va_up iv 10 c10_15) 14 c14_15) 15 c15_15) 22 c22_15) 23 c23_15) 24 c24_15) 25 c25_15) 26 (nI f_15)) 28 1) (va_up (va_up (va_up ia 11 g11_15) 12 g12_15) 27 g27_15) K2_15 R mv) := hI
    exact hret (c10_15, c14_15, c15_15, 1, c22_15, c23_15, c24_15, c25_15, nI f_15, g27_15, g11_15, g12_15, K2_15) 0 _ _ 0 0 _ _ dX5_readAll_22 hI (by show (∃ n1_e : Nat, ∃ st1_e : Nat, ∃ mm1_e : Nat, ∃ h1_e : Nat → Int32, ∃ c1_e : Nat → Int32, ∃ K1_e : Nat → Nat → Int32, ∃ cn_e : Nat, 0 = 1 ∧ rdA b sz (n, st, mm, ia 11, ia 12, K) = .ok ((n1_e, st1_e, mm1_e, h1_e, c1_e, K1_e), cn_e) ∧ n1_e ≤ 7 ∧ nI (n1_e) = c10_15 ∧ nI (st1_e) = c14_15 ∧ nI (mm1_e) = c15_15 ∧ h1_e = g11_15 ∧ c1_e = g12_15 ∧ K1_e = K2_15 ∧ nI (cn_e) = 1) ∨ (∃ f_e : Nat, 0 = 0 ∧ rdA b sz (n, st, mm, ia 11, ia 12, K) = .error f_e ∧ nI (f_e) = (nI f_15)); exact Or.inr ⟨_, rfl, rdA_1 f0_15, rfl⟩) (Nat.le_of_ble_eq_true rfl) (Nat.le_of_ble_eq_true rfl) rfl

theorem c5_town (l : Launch) (E : En) (ad : Nat → Nat) (kp : Option Nat) (iv : Nat → Int32) (ia K : Nat → Nat → Int32) (R : Nat → Nat → Int64) (mv : Nat → Int64) (ob : Option (Nat → Nat)) (kpb trb : Option Nat) (ivb : Nat → Int32) (iab Kb : Nat → Nat → Int32) (Rb : Nat → Nat → Int64) (mvb : Nat → Int64) (b : Nat → Nat) (sz : Nat) (n st mm : Nat) (hsz : iv 8 = nI sz) (hz : sz ≤ 250) (htp : tpOk (ia 7) b sz) (hn : iv 10 = nI n) (hn7 : n ≤ 7) (hst : iv 14 = nI st) (hmm : iv 15 = nI mm) : CtI l E yX5_town cX5_town 3 .int 20 38 1946 [.ref (ad 45)] (mW E ad kp (oT ob) iv ia K R mv ++ (oM E ob kpb trb ivb iab Kb Rb mvb)) (fun (r : Int32) (u : Int32 × Int32 × Int32 × Int32 × Int32 × Int32 × (Nat → Int32) × (Option (Nat → Nat)) × (Option Nat) × (Option Nat) × (Nat → Int32) × (Nat → Nat → Int32) × (Nat → Nat → Int32) × (Nat → Nat → Int64) × (Nat → Int64)) => r = twV (rdA b sz (n, st, mm, ia 11, ia 12, K))) (fun (u : Int32 × Int32 × Int32 × Int32 × Int32 × Int32 × (Nat → Int32) × (Option (Nat → Nat)) × (Option Nat) × (Option Nat) × (Nat → Int32) × (Nat → Nat → Int32) × (Nat → Nat → Int32) × (Nat → Nat → Int64) × (Nat → Int64)) => mW E ad kp (oT u.2.2.2.2.2.2.2.1) (va_up (va_up (va_up (va_up (va_up (va_up (va_up (va_up (va_up (va_up iv 8 (nI 0)) 10 (nI ((twT (n, st, mm, ia 11, ia 12, K) (rdA b sz (n, st, mm, ia 11, ia 12, K))).1))) 14 (nI ((twT (n, st, mm, ia 11, ia 12, K) (rdA b sz (n, st, mm, ia 11, ia 12, K))).2.1))) 15 (nI ((twT (n, st, mm, ia 11, ia 12, K) (rdA b sz (n, st, mm, ia 11, ia 12, K))).2.2.1))) 22 u.1) 23 u.2.1) 24 u.2.2.1) 25 u.2.2.2.1) 26 u.2.2.2.2.1) 28 u.2.2.2.2.2.1) (va_up (va_up (va_up (va_up ia 9 (bumpR (ia 9) (twC (rdA b sz (n, st, mm, ia 11, ia 12, K))))) 11 ((twT (n, st, mm, ia 11, ia 12, K) (rdA b sz (n, st, mm, ia 11, ia 12, K))).2.2.2.1)) 12 ((twT (n, st, mm, ia 11, ia 12, K) (rdA b sz (n, st, mm, ia 11, ia 12, K))).2.2.2.2.1)) 27 u.2.2.2.2.2.2.1) ((twT (n, st, mm, ia 11, ia 12, K) (rdA b sz (n, st, mm, ia 11, ia 12, K))).2.2.2.2.2) R mv ++ (oM E u.2.2.2.2.2.2.2.1 u.2.2.2.2.2.2.2.2.1 u.2.2.2.2.2.2.2.2.2.1 u.2.2.2.2.2.2.2.2.2.2.1 u.2.2.2.2.2.2.2.2.2.2.2.1 u.2.2.2.2.2.2.2.2.2.2.2.2.1 u.2.2.2.2.2.2.2.2.2.2.2.2.2.1 u.2.2.2.2.2.2.2.2.2.2.2.2.2.2)) := by
  refine CtI.of (by decide +kernel) (Nat.le_of_ble_eq_true rfl) ?_
  intro pR eR sR mR aR bR tR cR AR ls QR hxR hbR hmlR hts hown hlk hnm hA hK hI hl hret
  have hl : lv_has ls 3 [(0, .ref (ad 45))] := hl
  refine lv_aload_n hxR hbR dX5_town_0 rfl (lv_at hl 0 rfl) ?_
  refine kVR (n := 0) (As := []) (rest := []) (fun w => w) hxR hbR hmlR hts hown hK hA hl.1 isCtx.id hI (c5_fresh l E ad kp iv ia K R mv ob kpb trb ivb iab Kb Rb mvb) (lw_V q1759 q1761 qs50 q86 q1762) ⟨rfl, by decide +kernel⟩ 16 5 rfl rfl (he_l mW_o) rfl (Nat.le_of_ble_eq_true rfl) (Nat.le_of_ble_eq_true rfl) ⟨Nat.le_of_ble_eq_true rfl, Nat.le_of_ble_eq_true rfl⟩ (Nat.le_of_ble_eq_true rfl) dX5_town_1 (fun u r_1 H locs hp hI hz => ?_)
  obtain ⟨adN_1, kpN_1, trN_1, ivN_1, iaN_1, RN_1, mvN_1⟩ := u
  have hp : ivN_1 10 = iv 10 ∧ ivN_1 14 = iv 14 ∧ ivN_1 15 = iv 15 ∧ ivN_1 16 = iv 16 ∧ ivN_1 17 = iv 17 ∧ ivN_1 18 = iv 18 ∧ ivN_1 19 = iv 19 ∧ iaN_1 11 = ia 11 ∧ iaN_1 12 = ia 12 := hp
  obtain ⟨hv10_1, hv14_1, hv15_1, hv16_1, hv17_1, hv18_1, hv19_1, ha11_1, ha12_1⟩ := hp
  have hI : wI E AR sR H locs (mW E ad kp (some r_1) iv ia K R mv ++ (mW E (va_up adN_1 45 r_1) kpN_1 trN_1 ivN_1 iaN_1 K RN_1 mvN_1)) := hI
  generalize hadb_1 : va_up adN_1 45 r_1 = adb_1 at hI
  have e_1 : r_1 = adb_1 45 := by rw [← hadb_1, va_up_s]
  clear hadb_1
  subst e_1
  refine lv_astore_n (lv' := [(1, .ref (adb_1 45)), (0, .ref (ad 45))]) hxR hbR dX5_town_4 rfl hl (by decide) rfl (fun ls hl => ?_)
  refine lv_aload_n hxR hbR dX5_town_5 rfl (lv_at hl 1 rfl) ?_
  refine kVI (n := 0) (As := []) (rest := []) (fun w => w ++ (mW E adb_1 kpN_1 trN_1 ivN_1 iaN_1 K RN_1 mvN_1)) hxR hbR hmlR hts hown hK hA hl.1 (isCtx.suf _) hI (c5_readAll l E ad kp (some (adb_1 45)) iv ia K R mv b sz n st mm hsz (by first | omega | with_reducible assumption) (tpOk.of rfl htp) hn (by first | omega | with_reducible assumption) hst hmm) (lw_V q1772 q1774 qs52 q86 q1775) ⟨rfl, by decide +kernel⟩ 16 5 rfl rfl mW_o rfl (Nat.le_of_ble_eq_true rfl) (Nat.le_of_ble_eq_true rfl) ⟨Nat.le_of_ble_eq_true rfl, Nat.le_of_ble_eq_true rfl⟩ (Nat.le_of_ble_eq_true rfl) dX5_town_6 (fun r_6 u H locs hp hI hz => ?_)
  obtain ⟨c10_6, c14_6, c15_6, c28_6, c22_6, c23_6, c24_6, c25_6, c26_6, g27_6, g11_6, g12_6, K2_6⟩ := u
  have hI : wI E AR sR H locs (mW E ad kp (some (adb_1 45)) (va_up (va_up (va_up (va_up (va_up (va_up (va_up (va_up (va_up iv 10 c10_6) 14 c14_6) 15 c15_6) 22 c22_6) 23 c23_6) 24 c24_6) 25 c25_6) 26 c26_6) 28 c28_6) (va_up (va_up (va_up ia 11 g11_6) 12 g12_6) 27 g27_6) K2_6 R mv ++ (mW E adb_1 kpN_1 trN_1 ivN_1 iaN_1 K RN_1 mvN_1)) := hI
  have hp : (∃ n1_e : Nat, ∃ st1_e : Nat, ∃ mm1_e : Nat, ∃ h1_e : Nat → Int32, ∃ c1_e : Nat → Int32, ∃ K1_e : Nat → Nat → Int32, ∃ cn_e : Nat, r_6 = 1 ∧ rdA b sz (n, st, mm, ia 11, ia 12, K) = .ok ((n1_e, st1_e, mm1_e, h1_e, c1_e, K1_e), cn_e) ∧ n1_e ≤ 7 ∧ nI (n1_e) = c10_6 ∧ nI (st1_e) = c14_6 ∧ nI (mm1_e) = c15_6 ∧ h1_e = g11_6 ∧ c1_e = g12_6 ∧ K1_e = K2_6 ∧ nI (cn_e) = c28_6) ∨ (∃ f_e : Nat, r_6 = 0 ∧ rdA b sz (n, st, mm, ia 11, ia 12, K) = .error f_e ∧ nI (f_e) = c26_6) := hp
  have h2_6 := hp
  rcases h2_6 with ⟨n1_6, st1_6, mm1_6, h1_6, c1_6, K1_6, cn_6, rfl, f0_6, f1_6, rfl, rfl, rfl, rfl, rfl, rfl, rfl⟩ | ⟨f_6, rfl, f0_6, rfl⟩
  · skip
    have f0_6 : rdA b sz (n, st, mm, ia 11, ia 12, K) = .ok ((n1_6, st1_6, mm1_6, h1_6, c1_6, K1_6), cn_6) := f0_6
    have f1_6 : n1_6 ≤ 7 := f1_6
    have hI : wI E AR sR H locs (mW E ad kp (some (adb_1 45)) (va_up (va_up (va_up (va_up (va_up (va_up (va_up (va_up (va_up iv 10 (nI n1_6)) 14 (nI st1_6)) 15 (nI mm1_6)) 22 c22_6) 23 c23_6) 24 c24_6) 25 c25_6) 26 c26_6) 28 (nI cn_6)) (va_up (va_up (va_up ia 11 h1_6) 12 c1_6) 27 g27_6) K1_6 R mv ++ (mW E adb_1 kpN_1 trN_1 ivN_1 iaN_1 K RN_1 mvN_1)) := hI
    refine lv_istore_n (lv' := [(2, .int 1), (1, .ref (adb_1 45)), (0, .ref (ad 45))]) hxR hbR dX5_town_9 rfl hl (by decide) rfl (fun ls hl => ?_)
    refine lv_aload_n hxR hbR dX5_town_10 rfl (lv_at hl 2 rfl) ?_
    refine lv_iconst (v := 0) hxR hbR dX5_town_11 (by decide) ?_
    refine r_put (v := .int 0) (ws1 := mW E ad kp (some (adb_1 45)) (va_up (va_up (va_up (va_up (va_up (va_up (va_up (va_up (va_up (va_up iv 8 0) 10 (nI n1_6)) 14 (nI st1_6)) 15 (nI mm1_6)) 22 c22_6) 23 c23_6) 24 c24_6) 25 c25_6) 26 c26_6) 28 (nI cn_6)) (va_up (va_up (va_up ia 11 h1_6) 12 c1_6) 27 g27_6) K1_6 R mv ++ (mW E adb_1 kpN_1 trN_1 ivN_1 iaN_1 K RN_1 mvN_1)) hxR hbR hts hown hK hI okX5 (ci := 5) rfl 16 (he_l mW_o) 8 (by decide) q1486 rfl rfl rfl rfl (Nat.le_of_ble_eq_true rfl) (hw_l (Nat.le_of_ble_eq_true rfl) (Eq.trans mW_i8 (mW_c1 (up_s (by decide) (up_s (by decide) (up_s (by decide) (up_s (by decide) (up_s (by decide) (up_s (by decide) (up_s (by decide) (up_s (by decide) (up_s (by decide) rfl)))))))))))) dX5_town_12 (fun H locs hI => ?_)
    refine lv_iload_n hxR hbR dX5_town_15 rfl (lv_at hl 0 rfl) ?_
    refine lv_if_ne (tgt := 39) hxR hbR dX5_town_16 (by decide) (fun _ => ?_) (fun c => absurd c (by decide))
    refine lv_aload_n hxR hbR dX5_town_39 rfl (lv_at hl 2 rfl) ?_
    refine r_get hxR hbR hts hown hK hI okX5 (ci := 5) rfl 16 (he_l mW_o) 28 (by decide) q1506 rfl (v := .int (nI cn_6)) (al va_up_s) dX5_town_40 ?_
    have hI : wI E AR sR H locs (mW E ad kp (oT (some adb_1)) (va_up (va_up (va_up (va_up (va_up (va_up (va_up (va_up (va_up (va_up iv 8 (nI 0)) 10 (nI ((twT (n, st, mm, ia 11, ia 12, K) (rdA b sz (n, st, mm, ia 11, ia 12, K))).1))) 14 (nI ((twT (n, st, mm, ia 11, ia 12, K) (rdA b sz (n, st, mm, ia 11, ia 12, K))).2.1))) 15 (nI ((twT (n, st, mm, ia 11, ia 12, K) (rdA b sz (n, st, mm, ia 11, ia 12, K))).2.2.1))) 22 c22_6) 23 c23_6) 24 c24_6) 25 c25_6) 26 c26_6) 28 (nI cn_6)) (va_up (va_up (va_up (va_up ia 9 (bumpR (ia 9) (twC (rdA b sz (n, st, mm, ia 11, ia 12, K))))) 11 ((twT (n, st, mm, ia 11, ia 12, K) (rdA b sz (n, st, mm, ia 11, ia 12, K))).2.2.2.1)) 12 ((twT (n, st, mm, ia 11, ia 12, K) (rdA b sz (n, st, mm, ia 11, ia 12, K))).2.2.2.2.1)) 27 g27_6) ((twT (n, st, mm, ia 11, ia 12, K) (rdA b sz (n, st, mm, ia 11, ia 12, K))).2.2.2.2.2) R mv ++ (oM E (some adb_1) kpN_1 trN_1 ivN_1 iaN_1 K RN_1 mvN_1)) := by rw [f0_6, show bumpR (ia 9) (twC (.ok ((n1_6, st1_6, mm1_6, h1_6, c1_6, K1_6), cn_6))) = ia 9 from bump_0 _, va_up_id (f := ia) (k := 9) (v := ia 9) rfl]; exact hI
    exact hret (c22_6, c23_6, c24_6, c25_6, c26_6, nI cn_6, g27_6, (some adb_1), kpN_1, trN_1, ivN_1, iaN_1, K, RN_1, mvN_1) (nI cn_6) _ _ _ _ _ _ dX5_town_43 hI (by show (nI cn_6) = twV (rdA b sz (n, st, mm, ia 11, ia 12, K)); rw [f0_6]; rfl) (Nat.le_of_ble_eq_true rfl) (Nat.le_of_ble_eq_true rfl) rfl
  · skip
    have f0_6 : rdA b sz (n, st, mm, ia 11, ia 12, K) = .error f_6 := f0_6
    have hI : wI E AR sR H locs (mW E ad kp (some (adb_1 45)) (va_up (va_up (va_up (va_up (va_up (va_up (va_up (va_up (va_up iv 10 c10_6) 14 c14_6) 15 c15_6) 22 c22_6) 23 c23_6) 24 c24_6) 25 c25_6) 26 (nI f_6)) 28 c28_6) (va_up (va_up (va_up ia 11 g11_6) 12 g12_6) 27 g27_6) K2_6 R mv ++ (mW E adb_1 kpN_1 trN_1 ivN_1 iaN_1 K RN_1 mvN_1)) := hI
    refine lv_istore_n (lv' := [(2, .int 0), (1, .ref (adb_1 45)), (0, .ref (ad 45))]) hxR hbR dX5_town_9 rfl hl (by decide) rfl (fun ls hl => ?_)
    refine lv_aload_n hxR hbR dX5_town_10 rfl (lv_at hl 2 rfl) ?_
    refine lv_iconst (v := 0) hxR hbR dX5_town_11 (by decide) ?_
    refine r_put (v := .int 0) (ws1 := mW E ad kp (some (adb_1 45)) (va_up (va_up (va_up (va_up (va_up (va_up (va_up (va_up (va_up (va_up iv 8 0) 10 c10_6) 14 c14_6) 15 c15_6) 22 c22_6) 23 c23_6) 24 c24_6) 25 c25_6) 26 (nI f_6)) 28 c28_6) (va_up (va_up (va_up ia 11 g11_6) 12 g12_6) 27 g27_6) K2_6 R mv ++ (mW E adb_1 kpN_1 trN_1 ivN_1 iaN_1 K RN_1 mvN_1)) hxR hbR hts hown hK hI okX5 (ci := 5) rfl 16 (he_l mW_o) 8 (by decide) q1486 rfl rfl rfl rfl (Nat.le_of_ble_eq_true rfl) (hw_l (Nat.le_of_ble_eq_true rfl) (Eq.trans mW_i8 (mW_c1 (up_s (by decide) (up_s (by decide) (up_s (by decide) (up_s (by decide) (up_s (by decide) (up_s (by decide) (up_s (by decide) (up_s (by decide) (up_s (by decide) rfl)))))))))))) dX5_town_12 (fun H locs hI => ?_)
    refine lv_iload_n hxR hbR dX5_town_15 rfl (lv_at hl 0 rfl) ?_
    refine lv_if_ne (tgt := 39) hxR hbR dX5_town_16 (by decide) (fun c => absurd c (by decide)) (fun _ => ?_)
    refine lv_aload_n hxR hbR dX5_town_19 rfl (lv_at hl 2 rfl) ?_
    refine lv_aload_n hxR hbR dX5_town_20 rfl (lv_at hl 1 rfl) ?_
    refine kVV (n := 1) (As := [.ref (adb_1 45)]) (rest := []) (fun w => w) hxR hbR hmlR hts hown hK hA hl.1 isCtx.id hI (c5_takeFrom l E ad kp (some (adb_1 45)) (va_up (va_up (va_up (va_up (va_up (va_up (va_up (va_up (va_up (va_up iv 8 0) 10 c10_6) 14 c14_6) 15 c15_6) 22 c22_6) 23 c23_6) 24 c24_6) 25 c25_6) 26 (nI f_6)) 28 c28_6) (va_up (va_up (va_up ia 11 g11_6) 12 g12_6) 27 g27_6) K2_6 R mv adb_1 kpN_1 trN_1 ivN_1 iaN_1 K RN_1 mvN_1  ) (lw_V q1765 q1767 qs51 q86 q1768) ⟨rfl, by decide +kernel⟩ 16 5 rfl rfl (he_l mW_o) rfl (Nat.le_of_ble_eq_true rfl) (Nat.le_of_ble_eq_true rfl) ⟨Nat.le_of_ble_eq_true rfl, Nat.le_of_ble_eq_true rfl⟩ (Nat.le_of_ble_eq_true rfl) dX5_town_21 (fun u H locs hp hI hz => ?_)
    have hI : wI E AR sR H locs (mW E ad kp (some (adb_1 45)) (va_up (va_up (va_up (va_up (va_up (va_up (va_up (va_up (va_up (va_up (va_up (va_up (va_up (va_up (va_up (va_up (va_up iv 8 0) 10 c10_6) 14 c14_6) 15 c15_6) 22 c22_6) 23 c23_6) 24 c24_6) 25 c25_6) 26 (nI f_6)) 28 c28_6) 10 (ivN_1 10)) 14 (ivN_1 14)) 15 (ivN_1 15)) 16 (ivN_1 16)) 17 (ivN_1 17)) 18 (ivN_1 18)) 19 (ivN_1 19)) (va_up (va_up (va_up (va_up (va_up ia 11 g11_6) 12 g12_6) 27 g27_6) 11 (iaN_1 11)) 12 (iaN_1 12)) K R mv ++ (mW E adb_1 kpN_1 trN_1 ivN_1 iaN_1 K RN_1 mvN_1)) := hI
    have hI := wI_w (ws' := mW E ad kp (some (adb_1 45)) (va_up (va_up (va_up (va_up (va_up (va_up (va_up (va_up (va_up (va_up (va_up (va_up (va_up (va_up iv 8 0) 10 (ivN_1 10)) 14 (ivN_1 14)) 15 (ivN_1 15)) 16 (ivN_1 16)) 17 (ivN_1 17)) 18 (ivN_1 18)) 19 (ivN_1 19)) 22 c22_6) 23 c23_6) 24 c24_6) 25 c25_6) 26 (nI f_6)) 28 c28_6) (va_up (va_up (va_up ia 11 (iaN_1 11)) 12 (iaN_1 12)) 27 g27_6) K R mv ++ (mW E adb_1 kpN_1 trN_1 ivN_1 iaN_1 K RN_1 mvN_1)) (by rw [(show (va_up (va_up (va_up (va_up (va_up (va_up (va_up (va_up (va_up (va_up (va_up (va_up (va_up (va_up iv 8 0) 10 (ivN_1 10)) 14 (ivN_1 14)) 15 (ivN_1 15)) 16 (ivN_1 16)) 17 (ivN_1 17)) 18 (ivN_1 18)) 19 (ivN_1 19)) 22 c22_6) 23 c23_6) 24 c24_6) 25 c25_6) 26 (nI f_6)) 28 c28_6) = (va_up (va_up (va_up (va_up (va_up (va_up (va_up (va_up (va_up (va_up (va_up (va_up (va_up (va_up (va_up (va_up (va_up iv 8 0) 10 c10_6) 14 c14_6) 15 c15_6) 22 c22_6) 23 c23_6) 24 c24_6) 25 c25_6) 26 (nI f_6)) 28 c28_6) 10 (ivN_1 10)) 14 (ivN_1 14)) 15 (ivN_1 15)) 16 (ivN_1 16)) 17 (ivN_1 17)) 18 (ivN_1 18)) 19 (ivN_1 19)) from ((Eq.trans (congrArg (fun z => va_up z 19 (ivN_1 19)) (Eq.trans (congrArg (fun z => va_up z 18 (ivN_1 18)) (Eq.trans (congrArg (fun z => va_up z 17 (ivN_1 17)) (Eq.trans (congrArg (fun z => va_up z 16 (ivN_1 16)) (Eq.trans (congrArg (fun z => va_up z 15 (ivN_1 15)) (Eq.trans (congrArg (fun z => va_up z 14 (ivN_1 14)) (up_s (by decide) (up_s (by decide) (up_s (by decide) (up_s (by decide) (up_s (by decide) (up_s (by decide) (up_s (by decide) (up_s (by decide) up_0))))))))) (up_s (by decide) (up_s (by decide) (up_s (by decide) (up_s (by decide) (up_s (by decide) (up_s (by decide) (up_s (by decide) up_0))))))))) (up_s (by decide) (up_s (by decide) (up_s (by decide) (up_s (by decide) (up_s (by decide) (up_s (by decide) up_0)))))))) (up_s (by decide) (up_s (by decide) (up_s (by decide) (up_s (by decide) (up_s (by decide) (up_s (by decide) rfl)))))))) (up_s (by decide) (up_s (by decide) (up_s (by decide) (up_s (by decide) (up_s (by decide) (up_s (by decide) rfl)))))))) (up_s (by decide) (up_s (by decide) (up_s (by decide) (up_s (by decide) (up_s (by decide) (up_s (by decide) rfl)))))))) (up_s (by decide) (up_s (by decide) (up_s (by decide) (up_s (by decide) (up_s (by decide) (up_s (by decide) rfl)))))))).symm), (show (va_up (va_up (va_up ia 11 (iaN_1 11)) 12 (iaN_1 12)) 27 g27_6) = (va_up (va_up (va_up (va_up (va_up ia 11 g11_6) 12 g12_6) 27 g27_6) 11 (iaN_1 11)) 12 (iaN_1 12)) from ((Eq.trans (congrArg (fun z => va_up z 12 (iaN_1 12)) (up_s (by decide) (up_s (by decide) up_0))) (up_s (by decide) up_0))).symm)]) hI
    have hI : wI E AR sR H locs (mW E ad kp (some (adb_1 45)) (va_up (va_up (va_up (va_up (va_up (va_up (va_up (va_up (va_up (va_up (va_up (va_up (va_up (va_up iv 8 0) 10 (ivN_1 10)) 14 (ivN_1 14)) 15 (ivN_1 15)) 16 (ivN_1 16)) 17 (ivN_1 17)) 18 (ivN_1 18)) 19 (ivN_1 19)) 22 c22_6) 23 c23_6) 24 c24_6) 25 c25_6) 26 (nI f_6)) 28 c28_6) (va_up (va_up (va_up ia 11 (iaN_1 11)) 12 (iaN_1 12)) 27 g27_6) K R mv ++ (mW E adb_1 kpN_1 trN_1 ivN_1 iaN_1 K RN_1 mvN_1)) := hI
    have hI := wI_w (ws' := mW E ad kp (some (adb_1 45)) (va_up (va_up (va_up (va_up (va_up (va_up (va_up (va_up (va_up (va_up (va_up (va_up (va_up (va_up iv 8 0) 10 (iv 10)) 14 (iv 14)) 15 (iv 15)) 16 (iv 16)) 17 (iv 17)) 18 (iv 18)) 19 (iv 19)) 22 c22_6) 23 c23_6) 24 c24_6) 25 c25_6) 26 (nI f_6)) 28 c28_6) (va_up (va_up (va_up ia 11 (ia 11)) 12 (ia 12)) 27 g27_6) K R mv ++ (mW E adb_1 kpN_1 trN_1 ivN_1 iaN_1 K RN_1 mvN_1)) (by rw [hv10_1, hv14_1, hv15_1, hv16_1, hv17_1, hv18_1, hv19_1, ha11_1, ha12_1]) hI
    have hI := wI_w (ws' := mW E ad kp (some (adb_1 45)) (va_up (va_up (va_up (va_up (va_up (va_up (va_up (va_up (va_up (va_up iv 8 0) 10 (nI n)) 14 (nI st)) 15 (nI mm)) 22 c22_6) 23 c23_6) 24 c24_6) 25 c25_6) 26 (nI f_6)) 28 c28_6) (va_up (va_up (va_up ia 11 (ia 11)) 12 (ia 12)) 27 g27_6) K R mv ++ (mW E adb_1 kpN_1 trN_1 ivN_1 iaN_1 K RN_1 mvN_1)) (by rw [va_up_id (f := (va_up (va_up (va_up (va_up iv 8 0) 10 (iv 10)) 14 (iv 14)) 15 (iv 15))) (k := 16) (v := iv 16) (up_n (by decide) (up_n (by decide) (up_n (by decide) (up_n (by decide) rfl)))), va_up_id (f := (va_up (va_up (va_up (va_up iv 8 0) 10 (iv 10)) 14 (iv 14)) 15 (iv 15))) (k := 17) (v := iv 17) (up_n (by decide) (up_n (by decide) (up_n (by decide) (up_n (by decide) rfl)))), va_up_id (f := (va_up (va_up (va_up (va_up iv 8 0) 10 (iv 10)) 14 (iv 14)) 15 (iv 15))) (k := 18) (v := iv 18) (up_n (by decide) (up_n (by decide) (up_n (by decide) (up_n (by decide) rfl)))), va_up_id (f := (va_up (va_up (va_up (va_up iv 8 0) 10 (iv 10)) 14 (iv 14)) 15 (iv 15))) (k := 19) (v := iv 19) (up_n (by decide) (up_n (by decide) (up_n (by decide) (up_n (by decide) rfl)))), hn, hst, hmm]) hI
    refine lv_aload_n hxR hbR dX5_town_24 rfl (lv_at hl 2 rfl) ?_
    refine lv_bipush (v := (-2)) hxR hbR dX5_town_25 (by decide) ?_
    refine kVI (n := 1) (As := [.int (-2)]) (rest := []) (fun w => w ++ (mW E adb_1 kpN_1 trN_1 ivN_1 iaN_1 K RN_1 mvN_1)) hxR hbR hmlR hts hown hK hA hl.1 (isCtx.suf _) hI (c5_refuse l E ad kp (some (adb_1 45)) (va_up (va_up (va_up (va_up (va_up (va_up (va_up (va_up (va_up (va_up iv 8 0) 10 (nI n)) 14 (nI st)) 15 (nI mm)) 22 c22_6) 23 c23_6) 24 c24_6) 25 c25_6) 26 (nI f_6)) 28 c28_6) (va_up (va_up (va_up ia 11 (ia 11)) 12 (ia 12)) 27 g27_6) K R mv (-2) 2 (by decide) (by decide)) (lw_V q1624 q1626 qs34 q86 q1627) ⟨rfl, by decide +kernel⟩ 16 5 rfl rfl mW_o rfl (Nat.le_of_ble_eq_true rfl) (Nat.le_of_ble_eq_true rfl) ⟨Nat.le_of_ble_eq_true rfl, Nat.le_of_ble_eq_true rfl⟩ (Nat.le_of_ble_eq_true rfl) dX5_town_27 (fun r_27 u H locs hp hI hz => ?_)
    have hI : wI E AR sR H locs (mW E ad kp (some (adb_1 45)) (va_up (va_up (va_up (va_up (va_up (va_up (va_up (va_up (va_up (va_up iv 8 0) 10 (nI n)) 14 (nI st)) 15 (nI mm)) 22 c22_6) 23 c23_6) 24 c24_6) 25 c25_6) 26 (nI f_6)) 28 c28_6) (va_up (va_up (va_up (va_up ia 11 (ia 11)) 12 (ia 12)) 27 g27_6) 9 (va_up ((ia 9)) 2 ((ia 9) 2 + 1))) K R mv ++ (mW E adb_1 kpN_1 trN_1 ivN_1 iaN_1 K RN_1 mvN_1)) := hI
    have hI := wI_w (ws' := mW E ad kp (some (adb_1 45)) (va_up (va_up (va_up (va_up (va_up (va_up (va_up (va_up (va_up (va_up iv 8 0) 10 (nI n)) 14 (nI st)) 15 (nI mm)) 22 c22_6) 23 c23_6) 24 c24_6) 25 c25_6) 26 (nI f_6)) 28 c28_6) (va_up (va_up (va_up (va_up ia 9 (va_up ((ia 9)) 2 ((ia 9) 2 + 1))) 11 (ia 11)) 12 (ia 12)) 27 g27_6) K R mv ++ (mW E adb_1 kpN_1 trN_1 ivN_1 iaN_1 K RN_1 mvN_1)) (by rw [(show (va_up (va_up (va_up (va_up ia 9 (va_up ((ia 9)) 2 ((ia 9) 2 + 1))) 11 (ia 11)) 12 (ia 12)) 27 g27_6) = (va_up (va_up (va_up (va_up ia 11 (ia 11)) 12 (ia 12)) 27 g27_6) 9 (va_up ((ia 9)) 2 ((ia 9) 2 + 1))) from ((up_s (by decide) (up_s (by decide) (up_s (by decide) rfl)))).symm)]) hI
    have hI : wI E AR sR H locs (mW E ad kp (some (adb_1 45)) (va_up (va_up (va_up (va_up (va_up (va_up (va_up (va_up (va_up (va_up iv 8 0) 10 (nI n)) 14 (nI st)) 15 (nI mm)) 22 c22_6) 23 c23_6) 24 c24_6) 25 c25_6) 26 (nI f_6)) 28 c28_6) (va_up (va_up (va_up (va_up ia 9 (va_up ((ia 9)) 2 ((ia 9) 2 + 1))) 11 (ia 11)) 12 (ia 12)) 27 g27_6) K R mv ++ (mW E adb_1 kpN_1 trN_1 ivN_1 iaN_1 K RN_1 mvN_1)) := hI
    have hp : r_27 = (-2) := hp
    have hr_27 := hp
    subst hr_27
    refine lv_pop hxR hbR dX5_town_30 rfl ?_
    refine lv_bipush (v := (-20)) hxR hbR dX5_town_31 (by decide) ?_
    refine lv_aload_n hxR hbR dX5_town_33 rfl (lv_at hl 2 rfl) ?_
    refine r_get hxR hbR hts hown hK hI okX5 (ci := 5) rfl 16 (he_l mW_o) 26 (by decide) q1504 rfl (v := .int (nI f_6)) (al (up_n (by decide) va_up_s)) dX5_town_34 ?_
    refine lv_isub hxR hbR dX5_town_37 ?_
    have hI : wI E AR sR H locs (mW E ad kp (oT (some adb_1)) (va_up (va_up (va_up (va_up (va_up (va_up (va_up (va_up (va_up (va_up iv 8 (nI 0)) 10 (nI ((twT (n, st, mm, ia 11, ia 12, K) (rdA b sz (n, st, mm, ia 11, ia 12, K))).1))) 14 (nI ((twT (n, st, mm, ia 11, ia 12, K) (rdA b sz (n, st, mm, ia 11, ia 12, K))).2.1))) 15 (nI ((twT (n, st, mm, ia 11, ia 12, K) (rdA b sz (n, st, mm, ia 11, ia 12, K))).2.2.1))) 22 c22_6) 23 c23_6) 24 c24_6) 25 c25_6) 26 (nI f_6)) 28 c28_6) (va_up (va_up (va_up (va_up ia 9 (bumpR (ia 9) (twC (rdA b sz (n, st, mm, ia 11, ia 12, K))))) 11 ((twT (n, st, mm, ia 11, ia 12, K) (rdA b sz (n, st, mm, ia 11, ia 12, K))).2.2.2.1)) 12 ((twT (n, st, mm, ia 11, ia 12, K) (rdA b sz (n, st, mm, ia 11, ia 12, K))).2.2.2.2.1)) 27 g27_6) ((twT (n, st, mm, ia 11, ia 12, K) (rdA b sz (n, st, mm, ia 11, ia 12, K))).2.2.2.2.2) R mv ++ (oM E (some adb_1) kpN_1 trN_1 ivN_1 iaN_1 K RN_1 mvN_1)) := by rw [f0_6, show bumpR (ia 9) (twC (.error f_6)) = va_up (ia 9) 2 (ia 9 2 + 1) from bump_2 _]; exact hI
    exact hret (c22_6, c23_6, c24_6, c25_6, nI f_6, c28_6, g27_6, (some adb_1), kpN_1, trN_1, ivN_1, iaN_1, K, RN_1, mvN_1) ((-20) - (nI f_6)) _ _ _ _ _ _ dX5_town_38 hI (by show ((-20) - (nI f_6)) = twV (rdA b sz (n, st, mm, ia 11, ia 12, K)); rw [f0_6]; rfl) (Nat.le_of_ble_eq_true rfl) (Nat.le_of_ble_eq_true rfl) rfl
