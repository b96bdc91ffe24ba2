theorem c5_goesBy (l : Launch) (E : En) (ad : Nat → Nat) (kp tr : Option Nat) (iv : Nat → Int32) (ia K : Nat → Nat → Int32) (R : Nat → Nat → Int64) (mv : Nat → Int64) (n st kd k9 : Nat) (hn : iv 10 = nI n) (hst : iv 14 = nI st) (hn7 : n ≤ 7) (hs2 : 2 ≤ st) (hs4 : st ≤ 4) (hkd : kd < 100) (h9 : k9 < 100) (hh : ∀ q, q < n → ∃ x, x < 24 ∧ ia 11 q = nI x) : CtV l E yX5_goesBy cX5_goesBy 8 260 0 0 [.ref (ad 45), .int (nI kd), .int (nI k9)] (mW E ad kp tr iv ia K R mv) (fun (u : Int32 × (Nat → Int32)) => True) (fun (u : Int32 × (Nat → Int32)) => mW E ad kp tr (va_up (va_up (va_up iv 30 u.1) 33 (nI ((dayP K (ia 12) (ia 11) n st kd k9 (ia 35) n).1.length))) 34 (nI ((dayP K (ia 12) (ia 11) n st kd k9 (ia 35) n).2.1))) (va_up (va_up (va_up (va_up ia 29 u.2) 31 (wrL (ia 31) 0 (comL (ia 11) n))) 32 (wrL (ia 32) 0 (dayP K (ia 12) (ia 11) n st kd k9 (ia 35) n).1)) 35 (leaveW (ia 12) (ia 11) 24 (dayP K (ia 12) (ia 11) n st kd k9 (ia 35) n).2.1 n (dayP K (ia 12) (ia 11) n st kd k9 (ia 35) n).2.2)) K R mv) := by
  have hcl := comL_len (hour := ia 11) hh
  refine CtV.of (by decide +kernel) (Nat.le_of_ble_eq_true rfl) ?_
  intro pR eR sR mR aR bR tR cR AR ls QR hxR hbR hmlR hts hown hlk hnm hA hK hI hl hret
  have hl : lv_has ls 8 [(0, .ref (ad 45)), (1, .int (nI kd)), (2, .int (nI k9))] := hl
  refine lv_aload_n hxR hbR dX5_goesBy_0 rfl (lv_at hl 0 rfl) ?_
  refine kVV (n := 0) (As := []) (rest := []) (fun w => w) hxR hbR hmlR hts hown hK hA hl.1 isCtx.id hI (c5_findComing l E ad kp tr iv ia K R mv n hn (by first | omega | with_reducible assumption)) (lw_V q1906 q1908 qs68 q86 q1909) ⟨rfl, by decide +kernel⟩ 16 5 rfl rfl mW_o rfl (Nat.le_of_ble_eq_true rfl) (Nat.le_of_ble_eq_true rfl) ⟨Nat.le_of_ble_eq_true rfl, Nat.le_of_ble_eq_true rfl⟩ (Nat.le_of_ble_eq_true rfl) dX5_goesBy_1 (fun u H locs hp hI hz => ?_)
  have hI : wI E AR sR H locs (mW E ad kp tr iv (va_up ia 31 (wrL (ia 31) 0 (comL (ia 11) n))) K R mv) := hI
  refine lv_aload_n hxR hbR dX5_goesBy_4 rfl (lv_at hl 0 rfl) ?_
  refine lv_iconst (v := 0) hxR hbR dX5_goesBy_5 (by decide) ?_
  refine r_put (v := .int 0) (ws1 := mW E ad kp tr (va_up iv 33 0) (va_up ia 31 (wrL (ia 31) 0 (comL (ia 11) n))) K R mv) hxR hbR hts hown hK hI okX5 (ci := 5) rfl 16 mW_o 33 (by decide) q1511 rfl rfl rfl rfl (Nat.le_of_ble_eq_true rfl) mW_i33 dX5_goesBy_6 (fun H locs hI => ?_)
  refine lv_iconst (v := 0) hxR hbR dX5_goesBy_9 (by decide) ?_
  refine lv_istore_n (lv' := [(3, .int 0), (0, .ref (ad 45)), (1, .int (nI kd)), (2, .int (nI k9))]) hxR hbR dX5_goesBy_10 rfl hl (by decide) rfl (fun ls hl => ?_)
  refine lv_iconst (v := 0) hxR hbR dX5_goesBy_11 (by decide) ?_
  refine lv_istore (lv' := [(4, .int 0), (3, .int 0), (0, .ref (ad 45)), (1, .int (nI kd)), (2, .int (nI k9))]) hxR hbR dX5_goesBy_12 hl (by decide) rfl (fun ls hl => ?_)
  have hI := wI_w (ws' := mW E ad kp tr (va_up iv 33 0) (va_up (va_up ia 31 (wrL (ia 31) 0 (comL (ia 11) n))) 35 (ia 35)) K R mv) (by rw [va_up_id (f := (va_up ia 31 (wrL (ia 31) 0 (comL (ia 11) n)))) (k := 35) (v := ia 35) (up_n (by decide) rfl)]) hI
  have hI := wI_w (ws' := mW E ad kp tr (va_up iv 33 0) (va_up (va_up (va_up ia 31 (wrL (ia 31) 0 (comL (ia 11) n))) 32 (ia 32)) 35 (ia 35)) K R mv) (by rw [va_up_id (f := (va_up ia 31 (wrL (ia 31) 0 (comL (ia 11) n)))) (k := 32) (v := ia 32) (up_n (by decide) rfl)]) hI
  have hI := wI_w (ws' := mW E ad kp tr (va_up (va_up iv 30 (iv 30)) 33 0) (va_up (va_up (va_up ia 31 (wrL (ia 31) 0 (comL (ia 11) n))) 32 (ia 32)) 35 (ia 35)) K R mv) (by rw [va_up_id (f := iv) (k := 30) (v := iv 30) rfl]) hI
  have hI := wI_w (ws' := mW E ad kp tr (va_up (va_up iv 30 (iv 30)) 33 0) (va_up (va_up (va_up (va_up ia 29 (ia 29)) 31 (wrL (ia 31) 0 (comL (ia 11) n))) 32 (ia 32)) 35 (ia 35)) K R mv) (by rw [va_up_id (f := ia) (k := 29) (v := ia 29) rfl]) hI
  have lp_14 : ∀ (fu : Nat) (k : Nat) (y : Nat) (cs : List Nat) (w : Nat → Int32) (wn : Nat) (g : Nat → Int32) (c3 : Int32) (g2 : Nat → Int32), (k ≤ n) → ((cs, y, w) = dayP K (ia 12) (ia 11) n st kd k9 (ia 35) k) → (wn = cs.length) → (g = wrL (ia 32) 0 cs) → (y < 256) → (cs.length + bitsN y 8 ≤ k) → n - k < fu → ∀ (H : Heap) (locs : List Loc), wI E AR sR H locs (mW E ad kp tr (va_up (va_up iv 30 c3) 33 (nI wn)) (va_up (va_up (va_up (va_up ia 29 g2) 31 (wrL (ia 31) 0 (comL (ia 11) n))) 32 g) 35 w) K R mv) → ∀ ls : Array Slot, lv_has ls 8 [(0, .ref (ad 45)), (1, .int (nI kd)), (2, .int (nI k9)), (3, .int (nI y)), (4, .int (nI k))] → W pR l eR (rmF 260 0 0) sR mR aR bR tR cR H locs 0 0 QR (F0 mR 14 ls []) := by
    intro fu
    induction fu with
    | zero =>
      intro k y cs w wn g c3 g2 hk hT hwn hg hy hbs hfu
      exact absurd hfu (Nat.not_lt_zero _)
    | succ fu ih_14 =>
      intro k y cs w wn g c3 g2 hk hT hwn hg hy hbs hfu H locs hI ls hl
      refine lv_iload hxR hbR dX5_goesBy_14 (lv_at hl 4 rfl) ?_
      refine lv_aload_n hxR hbR dX5_goesBy_16 rfl (lv_at hl 0 rfl) ?_
      refine r_get hxR hbR hts hown hK hI okX5 (ci := 5) rfl 16 mW_o 10 (by decide) q1488 rfl (v := .int (nI n)) (al (up_n (by decide) (up_n (by decide) hn))) dX5_goesBy_17 ?_
      refine lv_icmp_ge (tgt := 187) hxR hbR dX5_goesBy_20 (by decide) (fun c_20 => ?_) (fun c_20 => ?_)
      · skip
        have c_20 : n ≤ k := (n_le (a := n) (b := k) (by omega) (by omega)).mp c_20
        refine lv_aload_n hxR hbR dX5_goesBy_187 rfl (lv_at hl 0 rfl) ?_
        refine lv_iload_n hxR hbR dX5_goesBy_188 rfl (lv_at hl 3 rfl) ?_
        refine r_put (v := .int (nI y)) (ws1 := mW E ad kp tr (va_up (va_up (va_up iv 30 c3) 33 (nI wn)) 34 (nI y)) (va_up (va_up (va_up (va_up ia 29 g2) 31 (wrL (ia 31) 0 (comL (ia 11) n))) 32 g) 35 w) K R mv) hxR hbR hts hown hK hI okX5 (ci := 5) rfl 16 mW_o 34 (by decide) q1512 rfl rfl rfl rfl (Nat.le_of_ble_eq_true rfl) mW_i34 dX5_goesBy_189 (fun H locs hI => ?_)
        refine lv_iconst (v := 0) hxR hbR dX5_goesBy_192 (by decide) ?_
        refine lv_istore (lv' := [(4, .int 0), (0, .ref (ad 45)), (1, .int (nI kd)), (2, .int (nI k9)), (3, .int (nI y))]) hxR hbR dX5_goesBy_193 hl (by decide) rfl (fun ls hl => ?_)
        have lp_195 : ∀ (fu : Nat) (i : Nat) (w5 : Nat → Int32), (i ≤ n) → (w5 = leaveW (ia 12) (ia 11) 24 y i w) → n - i < fu → ∀ (H : Heap) (locs : List Loc), wI E AR sR H locs (mW E ad kp tr (va_up (va_up (va_up iv 30 c3) 33 (nI wn)) 34 (nI y)) (va_up (va_up (va_up (va_up ia 29 g2) 31 (wrL (ia 31) 0 (comL (ia 11) n))) 32 g) 35 w5) K R mv) → ∀ ls : Array Slot, lv_has ls 8 [(0, .ref (ad 45)), (1, .int (nI kd)), (2, .int (nI k9)), (3, .int (nI y)), (4, .int (nI i))] → W pR l eR (rmF 260 0 0) sR mR aR bR tR cR H locs 0 0 QR (F0 mR 195 ls []) := by
          intro fu
          induction fu with
          | zero =>
            intro i w5 hi hw5 hfu
            exact absurd hfu (Nat.not_lt_zero _)
          | succ fu ih_195 =>
            intro i w5 hi hw5 hfu H locs hI ls hl
            refine lv_iload hxR hbR dX5_goesBy_195 (lv_at hl 4 rfl) ?_
            refine lv_aload_n hxR hbR dX5_goesBy_197 rfl (lv_at hl 0 rfl) ?_
            refine r_get hxR hbR hts hown hK hI okX5 (ci := 5) rfl 16 mW_o 10 (by decide) q1488 rfl (v := .int (nI n)) (al (up_n (by decide) (up_n (by decide) (up_n (by decide) hn)))) dX5_goesBy_198 ?_
            refine lv_icmp_ge (tgt := 254) hxR hbR dX5_goesBy_201 (by decide) (fun c_201 => ?_) (fun c_201 => ?_)
            · skip
              have c_201 : n ≤ i := (n_le (a := n) (b := i) (by omega) (by omega)).mp c_201
              have hI : wI E AR sR H locs (mW E ad kp tr (va_up (va_up (va_up iv 30 c3) 33 (nI ((dayP K (ia 12) (ia 11) n st kd k9 (ia 35) n).1.length))) 34 (nI ((dayP K (ia 12) (ia 11) n st kd k9 (ia 35) n).2.1))) (va_up (va_up (va_up (va_up ia 29 g2) 31 (wrL (ia 31) 0 (comL (ia 11) n))) 32 (wrL (ia 32) 0 (dayP K (ia 12) (ia 11) n st kd k9 (ia 35) n).1)) 35 (leaveW (ia 12) (ia 11) 24 (dayP K (ia 12) (ia 11) n st kd k9 (ia 35) n).2.1 n (dayP K (ia 12) (ia 11) n st kd k9 (ia 35) n).2.2)) K R mv) := by rw [show k = n by omega] at hT; rw [show i = n by omega] at hw5; rw [← hT, ← hw5, ← hwn, ← hg]; exact hI
              exact hret (c3, g2) _ _ _ _ _ _ dX5_goesBy_254 hI (by show True; trivial) (Nat.le_of_ble_eq_true rfl) (Nat.le_of_ble_eq_true rfl)
            · skip
              have c_201 : i < n := Nat.lt_of_not_le (fun zz => c_201 ((n_le (a := n) (b := i) (by omega) (by omega)).mpr zz))
              refine lv_aload_n hxR hbR dX5_goesBy_204 rfl (lv_at hl 0 rfl) ?_
              refine r_get hxR hbR hts hown hK hI okX5 (ci := 5) rfl 16 mW_o 35 (by decide) q1513 rfl (v := .ref (ad 35)) rfl dX5_goesBy_205 ?_
              refine lv_iload hxR hbR dX5_goesBy_208 (lv_at hl 4 rfl) ?_
              refine lv_iload_n hxR hbR dX5_goesBy_210 rfl (lv_at hl 3 rfl) ?_
              refine lv_iload hxR hbR dX5_goesBy_211 (lv_at hl 4 rfl) ?_
              refine kSI (n := 2) (As := [.int (nI y), .int (nI i)]) (rest := [.int (nI i), .ref (ad 35)]) (fun w => w ++ (mW E ad kp tr (va_up (va_up (va_up iv 30 c3) 33 (nI wn)) 34 (nI y)) (va_up (va_up (va_up (va_up ia 29 g2) 31 (wrL (ia 31) 0 (comL (ia 11) n))) 32 g) 35 w5) K R mv)) hxR hbR hmlR hts hown hK hA hl.1 (isCtx.suf _) hI (c5_has l E  y i (by first | omega | with_reducible assumption) (by first | omega | with_reducible assumption)) (lw_S q1680 q1681 q86 q1682) (by decide +kernel) rfl (Nat.le_of_ble_eq_true rfl) (Nat.le_of_ble_eq_true rfl) ⟨Nat.le_of_ble_eq_true rfl, Nat.le_of_ble_eq_true rfl⟩ (Nat.le_of_ble_eq_true rfl) dX5_goesBy_213 (fun r_213 u H locs hp hI hz => ?_)
              have hI : wI E AR sR H locs (mW E ad kp tr (va_up (va_up (va_up iv 30 c3) 33 (nI wn)) 34 (nI y)) (va_up (va_up (va_up (va_up ia 29 g2) 31 (wrL (ia 31) 0 (comL (ia 11) n))) 32 g) 35 w5) K R mv) := hI
              have hp : r_213 = b2i (y.testBit i) := hp
              have hr_213 := hp
              rcases b2i_cases hr_213 with ⟨c_213, rfl⟩ | ⟨c_213, rfl⟩
              · skip
                have c_213 : y.testBit i = true := c_213
                refine lv_if_eq (tgt := 240) hxR hbR dX5_goesBy_216 (by decide) (fun c => absurd c (by decide)) (fun _ => ?_)
                refine lv_aload_n hxR hbR dX5_goesBy_219 rfl (lv_at hl 0 rfl) ?_
                refine r_get hxR hbR hts hown hK hI okX5 (ci := 5) rfl 16 mW_o 12 (by decide) q1490 rfl (v := .ref (ad 12)) rfl dX5_goesBy_220 ?_
                refine lv_iload hxR hbR dX5_goesBy_223 (lv_at hl 4 rfl) ?_
                refine r_iald hxR hbR hK hI 27 (n := 8) (J := i) (f := ia 12) (v := (ia 12) i) (mW_g12 (up_n (by decide) (up_n (by decide) (up_n (by decide) (up_n (by decide) rfl))))) (by omega) (by decide) rfl dX5_goesBy_225 ?_
                refine lv_bipush (v := 24) hxR hbR dX5_goesBy_226 (by decide) ?_
                refine lv_aload_n hxR hbR dX5_goesBy_228 rfl (lv_at hl 0 rfl) ?_
                refine r_get hxR hbR hts hown hK hI okX5 (ci := 5) rfl 16 mW_o 11 (by decide) q1489 rfl (v := .ref (ad 11)) rfl dX5_goesBy_229 ?_
                refine lv_iload hxR hbR dX5_goesBy_232 (lv_at hl 4 rfl) ?_
                refine r_iald hxR hbR hK hI 26 (n := 8) (J := i) (f := ia 11) (v := (ia 11) i) (mW_g11 (up_n (by decide) (up_n (by decide) (up_n (by decide) (up_n (by decide) rfl))))) (by omega) (by decide) rfl dX5_goesBy_234 ?_
                refine lv_isub hxR hbR dX5_goesBy_235 ?_
                refine lv_imul hxR hbR dX5_goesBy_236 ?_
                refine lv_goto (tgt := 247) hxR hbR dX5_goesBy_237 (by decide) ?_
                refine r_iast (ws1 := mW E ad kp tr (va_up (va_up (va_up iv 30 c3) 33 (nI wn)) 34 (nI y)) (va_up (va_up (va_up (va_up ia 29 g2) 31 (wrL (ia 31) 0 (comL (ia 11) n))) 32 g) 35 (va_up w5 i (((ia 12) i) * (24 - ((ia 11) i))))) K R mv) hxR hbR hK hI 33 (n := 7) (J := i) (f := w5) (mW_g35 va_up_s) (by omega) (by decide) (Eq.trans mW_a35 (mW_c2 up_0)) dX5_goesBy_247 (fun H locs hI => ?_)
                refine lv_iinc (v := nI (i + 1)) (lv' := [(4, .int (nI (i + 1))), (0, .ref (ad 45)), (1, .int (nI kd)), (2, .int (nI k9)), (3, .int (nI y))]) hxR hbR dX5_goesBy_248 hl (k := 4) rfl (show nI i + 1 = nI (i + 1) from nI_add _ 1) (by decide) rfl (fun ls hl => ?_)
                refine lv_goto (tgt := 195) hxR hbR dX5_goesBy_251 (by decide) ?_
                exact ih_195 (i + 1) (va_up w5 i (((ia 12) i) * (24 - ((ia 11) i)))) (by first | omega | with_reducible assumption) (by rw [hw5]; first | exact leaveW_y c_213 | exact leaveW_n c_213) (by omega) _ _ hI _ (lv_sub hl [1, 2, 3, 4, 0] rfl)
              · skip
                have c_213 : y.testBit i = false := c_213
                refine lv_if_eq (tgt := 240) hxR hbR dX5_goesBy_216 (by decide) (fun _ => ?_) (fun c => absurd c (by decide))
                refine lv_aload_n hxR hbR dX5_goesBy_240 rfl (lv_at hl 0 rfl) ?_
                refine r_get hxR hbR hts hown hK hI okX5 (ci := 5) rfl 16 mW_o 35 (by decide) q1513 rfl (v := .ref (ad 35)) rfl dX5_goesBy_241 ?_
                refine lv_iload hxR hbR dX5_goesBy_244 (lv_at hl 4 rfl) ?_
                refine r_iald hxR hbR hK hI 33 (n := 7) (J := i) (f := w5) (v := w5 i) (mW_g35 va_up_s) (by omega) (by decide) rfl dX5_goesBy_246 ?_
                refine r_iast (ws1 := mW E ad kp tr (va_up (va_up (va_up iv 30 c3) 33 (nI wn)) 34 (nI y)) (va_up (va_up (va_up (va_up ia 29 g2) 31 (wrL (ia 31) 0 (comL (ia 11) n))) 32 g) 35 (va_up w5 i (w5 i))) K R mv) hxR hbR hK hI 33 (n := 7) (J := i) (f := w5) (mW_g35 va_up_s) (by omega) (by decide) (Eq.trans mW_a35 (mW_c2 up_0)) dX5_goesBy_247 (fun H locs hI => ?_)
                refine lv_iinc (v := nI (i + 1)) (lv' := [(4, .int (nI (i + 1))), (0, .ref (ad 45)), (1, .int (nI kd)), (2, .int (nI k9)), (3, .int (nI y))]) hxR hbR dX5_goesBy_248 hl (k := 4) rfl (show nI i + 1 = nI (i + 1) from nI_add _ 1) (by decide) rfl (fun ls hl => ?_)
                refine lv_goto (tgt := 195) hxR hbR dX5_goesBy_251 (by decide) ?_
                exact ih_195 (i + 1) (va_up w5 i (w5 i)) (by first | omega | with_reducible assumption) (by rw [hw5]; first | exact leaveW_y c_213 | exact leaveW_n c_213) (by omega) _ _ hI _ (lv_sub hl [1, 2, 3, 4, 0] rfl)
        exact lp_195 _ 0 w (by first | omega | with_reducible assumption) (leaveW_0 _ _ _ _ _).symm (Nat.lt_succ_self _) _ _ hI _ (lv_sub hl [1, 2, 3, 4, 0] rfl)
      · skip
        have c_20 : k < n := Nat.lt_of_not_le (fun zz => c_20 ((n_le (a := n) (b := k) (by omega) (by omega)).mpr zz))
        have hck : (comL (ia 11) n).getD k 0 < n := comH_mem 24 _ (getD_mem (L := comL (ia 11) n) (i := k) (by rw [hcl]; omega))
        have hck2 : 2 ^ ((comL (ia 11) n).getD k 0) < 2 ^ 8 := Nat.pow_lt_pow_right (by decide) (by omega)
        have hyy := or_lt (n := 8) hy hck2
        refine lv_iload_n hxR hbR dX5_goesBy_23 rfl (lv_at hl 3 rfl) ?_
        refine lv_iconst (v := 1) hxR hbR dX5_goesBy_24 (by decide) ?_
        refine lv_aload_n hxR hbR dX5_goesBy_25 rfl (lv_at hl 0 rfl) ?_
        refine r_get hxR hbR hts hown hK hI okX5 (ci := 5) rfl 16 mW_o 31 (by decide) q1509 rfl (v := .ref (ad 31)) rfl dX5_goesBy_26 ?_
        refine lv_iload hxR hbR dX5_goesBy_29 (lv_at hl 4 rfl) ?_
        refine r_iald hxR hbR hK hI 31 (n := 7) (J := k) (f := wrL (ia 31) 0 (comL (ia 11) n)) (v := nI ((comL (ia 11) n).getD k 0)) (mW_g31 (up_n (by decide) (up_n (by decide) va_up_s))) (by omega) (by decide) (wrL_in _ (by rw [hcl]; omega)) dX5_goesBy_31 ?_
        refine lv_ishl hxR hbR dX5_goesBy_32 ?_
        refine lv_as (y := nI (2 ^ ((comL (ia 11) n).getD k 0))) (nb_shl ((comL (ia 11) n).getD k 0) (by omega)) ?_
        refine lv_ior hxR hbR dX5_goesBy_33 ?_
        refine lv_as (y := nI (y ||| (2 ^ ((comL (ia 11) n).getD k 0)))) (nb_or y (2 ^ ((comL (ia 11) n).getD k 0))) ?_
        refine lv_istore_n (lv' := [(3, .int (nI (y ||| (2 ^ ((comL (ia 11) n).getD k 0))))), (0, .ref (ad 45)), (1, .int (nI kd)), (2, .int (nI k9)), (4, .int (nI k))]) hxR hbR dX5_goesBy_34 rfl hl (by decide) rfl (fun ls hl => ?_)
        refine lv_aload_n hxR hbR dX5_goesBy_35 rfl (lv_at hl 1 rfl) ?_
        refine r_get hxR hbR hts hown hK hI okX5 (ci := 5) rfl 16 mW_o 11 (by decide) q1489 rfl (v := .ref (ad 11)) rfl dX5_goesBy_36 ?_
        refine lv_aload_n hxR hbR dX5_goesBy_39 rfl (lv_at hl 1 rfl) ?_
        refine r_get hxR hbR hts hown hK hI okX5 (ci := 5) rfl 16 mW_o 31 (by decide) q1509 rfl (v := .ref (ad 31)) rfl dX5_goesBy_40 ?_
        refine lv_iload hxR hbR dX5_goesBy_43 (lv_at hl 4 rfl) ?_
        refine r_iald hxR hbR hK hI 31 (n := 7) (J := k) (f := wrL (ia 31) 0 (comL (ia 11) n)) (v := nI ((comL (ia 11) n).getD k 0)) (mW_g31 (up_n (by decide) (up_n (by decide) va_up_s))) (by omega) (by decide) (wrL_in _ (by rw [hcl]; omega)) dX5_goesBy_45 ?_
        refine r_iald hxR hbR hK hI 26 (n := 8) (J := (comL (ia 11) n).getD k 0) (f := ia 11) (v := (ia 11) ((comL (ia 11) n).getD k 0)) (mW_g11 (up_n (by decide) (up_n (by decide) (up_n (by decide) (up_n (by decide) rfl))))) (by omega) (by decide) rfl dX5_goesBy_46 ?_
        refine lv_istore (lv' := [(5, .int ((ia 11) ((comL (ia 11) n).getD k 0))), (3, .int (nI (y ||| (2 ^ ((comL (ia 11) n).getD k 0))))), (0, .ref (ad 45)), (1, .int (nI kd)), (2, .int (nI k9)), (4, .int (nI k))]) hxR hbR dX5_goesBy_47 hl (by decide) rfl (fun ls hl => ?_)
        refine lv_aload_n hxR hbR dX5_goesBy_49 rfl (lv_at hl 2 rfl) ?_
        refine lv_iload_n hxR hbR dX5_goesBy_50 rfl (lv_at hl 3 rfl) ?_
        refine lv_iload_n hxR hbR dX5_goesBy_51 rfl (lv_at hl 4 rfl) ?_
        refine lv_iload_n hxR hbR dX5_goesBy_52 rfl (lv_at hl 1 rfl) ?_
        refine lv_aload_n hxR hbR dX5_goesBy_53 rfl (lv_at hl 2 rfl) ?_
        refine r_get hxR hbR hts hown hK hI okX5 (ci := 5) rfl 16 mW_o 10 (by decide) q1488 rfl (v := .int (nI n)) (al (up_n (by decide) (up_n (by decide) hn))) dX5_goesBy_54 ?_
        refine lv_iconst (v := 1) hxR hbR dX5_goesBy_57 (by decide) ?_
        refine lv_isub hxR hbR dX5_goesBy_58 ?_
        refine lv_as (y := nI (n - 1)) (pk_sub (a := n) (b := 1) (by omega)) ?_
        refine lv_iload hxR hbR dX5_goesBy_59 (lv_at hl 5 rfl) ?_
        refine lv_isub hxR hbR dX5_goesBy_61 ?_
        refine lv_as (y := nI ((n - 1) - k)) (pk_sub (a := n - 1) (b := k) (by omega)) ?_
        refine kVI (n := 4) (As := [.int (nI kd), .int (nI k9), .int (nI (y ||| (2 ^ ((comL (ia 11) n).getD k 0)))), .int (nI ((n - 1) - k))]) (rest := []) (fun w => w) hxR hbR hmlR hts hown hK hA hl.1 isCtx.id hI (c5_sentBy l E ad kp tr (va_up (va_up iv 30 c3) 33 (nI wn)) (va_up (va_up (va_up (va_up ia 29 g2) 31 (wrL (ia 31) 0 (comL (ia 11) n))) 32 g) 35 w) K R mv n st kd k9 (y ||| (2 ^ ((comL (ia 11) n).getD k 0))) ((n - 1) - k) (up_n (by decide) (up_n (by decide) hn)) (up_n (by decide) (up_n (by decide) hst)) (by omega) (by first | omega | with_reducible assumption) (by first | omega | with_reducible assumption) (by first | omega | with_reducible assumption) (by first | omega | with_reducible assumption) (by first | omega | with_reducible assumption) (by first | omega | with_reducible assumption)) (lw_V q1668 q1670 qs37 q86 q1671) ⟨rfl, by decide +kernel⟩ 16 5 rfl rfl mW_o rfl (Nat.le_of_ble_eq_true rfl) (Nat.le_of_ble_eq_true rfl) ⟨Nat.le_of_ble_eq_true rfl, Nat.le_of_ble_eq_true rfl⟩ (Nat.le_of_ble_eq_true rfl) dX5_goesBy_62 (fun r_62 u H locs hp hI hz => ?_)
        have hI : wI E AR sR H locs (mW E ad kp tr (va_up (va_up (va_up iv 30 c3) 33 (nI wn)) 30 (nI ((GL K n st).length))) (va_up (va_up (va_up (va_up (va_up ia 29 g2) 31 (wrL (ia 31) 0 (comL (ia 11) n))) 32 g) 35 w) 29 (wrL (g2) 0 (GL K n st))) K R mv) := hI
        have hI := wI_w (ws' := mW E ad kp tr (va_up (va_up iv 30 (nI ((GL K n st).length))) 33 (nI wn)) (va_up (va_up (va_up (va_up ia 29 (wrL (g2) 0 (GL K n st))) 31 (wrL (ia 31) 0 (comL (ia 11) n))) 32 g) 35 w) K R mv) (by rw [(show (va_up (va_up iv 30 (nI ((GL K n st).length))) 33 (nI wn)) = (va_up (va_up (va_up iv 30 c3) 33 (nI wn)) 30 (nI ((GL K n st).length))) from ((up_s (by decide) up_0)).symm), (show (va_up (va_up (va_up (va_up ia 29 (wrL (g2) 0 (GL K n st))) 31 (wrL (ia 31) 0 (comL (ia 11) n))) 32 g) 35 w) = (va_up (va_up (va_up (va_up (va_up ia 29 g2) 31 (wrL (ia 31) 0 (comL (ia 11) n))) 32 g) 35 w) 29 (wrL (g2) 0 (GL K n st))) from ((up_s (by decide) (up_s (by decide) (up_s (by decide) up_0)))).symm)]) hI
        have hI : wI E AR sR H locs (mW E ad kp tr (va_up (va_up iv 30 (nI ((GL K n st).length))) 33 (nI wn)) (va_up (va_up (va_up (va_up ia 29 (wrL (g2) 0 (GL K n st))) 31 (wrL (ia 31) 0 (comL (ia 11) n))) 32 g) 35 w) K R mv) := hI
        have hp : r_62 = nI (sentV K ((va_up (va_up (va_up (va_up ia 29 g2) 31 (wrL (ia 31) 0 (comL (ia 11) n))) 32 g) 35 w) 12) n st kd k9 (y ||| (2 ^ ((comL (ia 11) n).getD k 0))) ((n - 1) - k)) := hp
        have hr_62 := hp
        subst hr_62
        refine lv_istore (lv' := [(6, .int (nI (sentV K ((va_up (va_up (va_up (va_up ia 29 g2) 31 (wrL (ia 31) 0 (comL (ia 11) n))) 32 g) 35 w) 12) n st kd k9 (y ||| (2 ^ ((comL (ia 11) n).getD k 0))) ((n - 1) - k)))), (5, .int ((ia 11) ((comL (ia 11) n).getD k 0))), (3, .int (nI (y ||| (2 ^ ((comL (ia 11) n).getD k 0))))), (0, .ref (ad 45)), (1, .int (nI kd)), (2, .int (nI k9)), (4, .int (nI k))]) hxR hbR dX5_goesBy_65 hl (by decide) rfl (fun ls hl => ?_)
        have lp_67 : ∀ (fu : Nat) (s : Nat) (y2 : Nat) (cs2 : List Nat) (f : Nat) (w2 : Nat → Int32) (wn2 : Nat) (gg : Nat → Int32) (c4 : Int32) (g3 : Nat → Int32), (s = sentV K (ia 12) n st kd k9 y2 (n - 1 - k)) → (y2 < 256) → (y2 < f) → (sndF (fun y => sentV K (ia 12) n st kd k9 y (n - 1 - k)) (ia 12) (ia 11) (ia 11 ((comL (ia 11) n).getD k 0)) n f cs2 y2 w2 = dayP K (ia 12) (ia 11) n st kd k9 (ia 35) (k + 1)) → (wn2 = cs2.length) → (gg = wrL (ia 32) 0 cs2) → (cs2.length + bitsN y2 8 ≤ k + 1) → y2 < fu → ∀ (H : Heap) (locs : List Loc), wI E AR sR H locs (mW E ad kp tr (va_up (va_up iv 30 c4) 33 (nI wn2)) (va_up (va_up (va_up (va_up ia 29 g3) 31 (wrL (ia 31) 0 (comL (ia 11) n))) 32 gg) 35 w2) K R mv) → ∀ ls : Array Slot, lv_has ls 8 [(0, .ref (ad 45)), (1, .int (nI kd)), (2, .int (nI k9)), (3, .int (nI y2)), (4, .int (nI k)), (5, .int ((ia 11) ((comL (ia 11) n).getD k 0))), (6, .int (nI s))] → W pR l eR (rmF 260 0 0) sR mR aR bR tR cR H locs 0 0 QR (F0 mR 67 ls []) := by
          intro fu
          induction fu with
          | zero =>
            intro s y2 cs2 f w2 wn2 gg c4 g3 hs hy2 hf hTT hwn2 hg2 hbs2 hfu
            exact absurd hfu (Nat.not_lt_zero _)
          | succ fu ih_67 =>
            intro s y2 cs2 f w2 wn2 gg c4 g3 hs hy2 hf hTT hwn2 hg2 hbs2 hfu H locs hI ls hl
            refine lv_iload hxR hbR dX5_goesBy_67 (lv_at hl 6 rfl) ?_
            refine lv_if_eq (tgt := 181) hxR hbR dX5_goesBy_69 (by decide) (fun c_69 => ?_) (fun c_69 => ?_)
            · skip
              have c_69 : s = 0 := (n_eq (a := s) (b := 0) (by have := sub_lt (hs ▸ sentV_sub K (ia 12) n st kd k9 y2 (n - 1 - k)) hy2; omega) (by decide)).mp c_69
              refine lv_iinc (v := nI (k + 1)) (lv' := [(4, .int (nI (k + 1))), (0, .ref (ad 45)), (1, .int (nI kd)), (2, .int (nI k9)), (3, .int (nI y2)), (5, .int ((ia 11) ((comL (ia 11) n).getD k 0))), (6, .int (nI s))]) hxR hbR dX5_goesBy_181 hl (k := 4) rfl (show nI k + 1 = nI (k + 1) from nI_add _ 1) (by decide) rfl (fun ls hl => ?_)
              refine lv_goto (tgt := 14) hxR hbR dX5_goesBy_184 (by decide) ?_
              exact ih_14 (k + 1) y2 cs2 w2 wn2 gg c4 g3 (by first | omega | with_reducible assumption) (by rw [← hTT, sndF_0 hf (hs ▸ c_69)]) hwn2 hg2 (by first | omega | with_reducible assumption) (by first | omega | with_reducible assumption) (by omega) _ _ hI _ (lv_sub hl [1, 2, 3, 4, 0] rfl)
            · skip
              have c_69 : ¬ s = 0 := fun zz => c_69 ((n_eq (a := s) (b := 0) (by have := sub_lt (hs ▸ sentV_sub K (ia 12) n st kd k9 y2 (n - 1 - k)) hy2; omega) (by decide)).mpr zz)
              have hsub : nd s y2 = 0 := hs ▸ sentV_sub K (ia 12) n st kd k9 y2 (n - 1 - k)
              have hs256 := sub_lt hsub hy2
              have hp8 := bits_pos 8 hs256 c_69
              have hbn := bits_nd hsub 8
              have hnl := nd_lt hsub c_69
              refine lv_aload_n hxR hbR dX5_goesBy_72 rfl (lv_at hl 0 rfl) ?_
              refine r_get hxR hbR hts hown hK hI okX5 (ci := 5) rfl 16 mW_o 32 (by decide) q1510 rfl (v := .ref (ad 32)) rfl dX5_goesBy_73 ?_
              refine lv_aload_n hxR hbR dX5_goesBy_76 rfl (lv_at hl 0 rfl) ?_
              refine lv_dup hxR hbR dX5_goesBy_77 rfl ?_
              refine r_get hxR hbR hts hown hK hI okX5 (ci := 5) rfl 16 mW_o 33 (by decide) q1511 rfl (v := .int (nI wn2)) (al va_up_s) dX5_goesBy_78 ?_
              refine lv_dup_x1 hxR hbR dX5_goesBy_81 rfl rfl ?_
              refine lv_iconst (v := 1) hxR hbR dX5_goesBy_82 (by decide) ?_
              refine lv_iadd hxR hbR dX5_goesBy_83 ?_
              refine lv_as (y := nI (wn2 + 1)) (nI_add wn2 1) ?_
              refine r_put (v := .int (nI (wn2 + 1))) (ws1 := mW E ad kp tr (va_up (va_up iv 30 c4) 33 (nI (wn2 + 1))) (va_up (va_up (va_up (va_up ia 29 g3) 31 (wrL (ia 31) 0 (comL (ia 11) n))) 32 gg) 35 w2) K R mv) hxR hbR hts hown hK hI okX5 (ci := 5) rfl 16 mW_o 33 (by decide) q1511 rfl rfl rfl rfl (Nat.le_of_ble_eq_true rfl) (Eq.trans mW_i33 (mW_c1 up_0)) dX5_goesBy_84 (fun H locs hI => ?_)
              refine lv_iload hxR hbR dX5_goesBy_87 (lv_at hl 6 rfl) ?_
              refine r_iast (ws1 := mW E ad kp tr (va_up (va_up iv 30 c4) 33 (nI (wn2 + 1))) (va_up (va_up (va_up (va_up ia 29 g3) 31 (wrL (ia 31) 0 (comL (ia 11) n))) 32 (va_up gg wn2 (nI s))) 35 w2) K R mv) hxR hbR hK hI 32 (n := 7) (J := wn2) (f := gg) (mW_g32 (up_n (by decide) va_up_s)) (by omega) (by decide) (Eq.trans mW_a32 (mW_c2 (up_s (by decide) up_0))) dX5_goesBy_89 (fun H locs hI => ?_)
              refine lv_iload_n hxR hbR dX5_goesBy_90 rfl (lv_at hl 3 rfl) ?_
              refine lv_iload hxR hbR dX5_goesBy_91 (lv_at hl 6 rfl) ?_
              refine lv_iconst (v := (-1)) hxR hbR dX5_goesBy_93 (by decide) ?_
              refine lv_ixor hxR hbR dX5_goesBy_94 ?_
              refine lv_iand hxR hbR dX5_goesBy_95 ?_
              refine lv_as (y := nI (nd y2 s)) (nb_nd y2 s) ?_
              refine lv_istore_n (lv' := [(3, .int (nI (nd y2 s))), (0, .ref (ad 45)), (1, .int (nI kd)), (2, .int (nI k9)), (4, .int (nI k)), (5, .int ((ia 11) ((comL (ia 11) n).getD k 0))), (6, .int (nI s))]) hxR hbR dX5_goesBy_96 rfl hl (by decide) rfl (fun ls hl => ?_)
              refine lv_iconst (v := 0) hxR hbR dX5_goesBy_97 (by decide) ?_
              refine lv_istore (lv' := [(7, .int 0), (3, .int (nI (nd y2 s))), (0, .ref (ad 45)), (1, .int (nI kd)), (2, .int (nI k9)), (4, .int (nI k)), (5, .int ((ia 11) ((comL (ia 11) n).getD k 0))), (6, .int (nI s))]) hxR hbR dX5_goesBy_98 hl (by decide) rfl (fun ls hl => ?_)
              have lp_100 : ∀ (fu : Nat) (i : Nat) (w3 : Nat → Int32), (i ≤ n) → (w3 = leaveW (ia 12) (ia 11) (ia 11 ((comL (ia 11) n).getD k 0)) s i w2) → n - i < fu → ∀ (H : Heap) (locs : List Loc), wI E AR sR H locs (mW E ad kp tr (va_up (va_up iv 30 c4) 33 (nI (wn2 + 1))) (va_up (va_up (va_up (va_up ia 29 g3) 31 (wrL (ia 31) 0 (comL (ia 11) n))) 32 (va_up gg wn2 (nI s))) 35 w3) K R mv) → ∀ ls : Array Slot, lv_has ls 8 [(0, .ref (ad 45)), (1, .int (nI kd)), (2, .int (nI k9)), (3, .int (nI (nd y2 s))), (4, .int (nI k)), (5, .int ((ia 11) ((comL (ia 11) n).getD k 0))), (6, .int (nI s)), (7, .int (nI i))] → W pR l eR (rmF 260 0 0) sR mR aR bR tR cR H locs 0 0 QR (F0 mR 100 ls []) := by
                intro fu
                induction fu with
                | zero =>
                  intro i w3 hi hw3 hfu
                  exact absurd hfu (Nat.not_lt_zero _)
                | succ fu ih_100 =>
                  intro i w3 hi hw3 hfu H locs hI ls hl
                  refine lv_iload hxR hbR dX5_goesBy_100 (lv_at hl 7 rfl) ?_
                  refine lv_aload_n hxR hbR dX5_goesBy_102 rfl (lv_at hl 0 rfl) ?_
                  refine r_get hxR hbR hts hown hK hI okX5 (ci := 5) rfl 16 mW_o 10 (by decide) q1488 rfl (v := .int (nI n)) (al (up_n (by decide) (up_n (by decide) hn))) dX5_goesBy_103 ?_
                  refine lv_icmp_ge (tgt := 160) hxR hbR dX5_goesBy_106 (by decide) (fun c_106 => ?_) (fun c_106 => ?_)
                  · skip
                    have c_106 : n ≤ i := (n_le (a := n) (b := i) (by omega) (by omega)).mp c_106
                    refine lv_aload_n hxR hbR dX5_goesBy_160 rfl (lv_at hl 0 rfl) ?_
                    refine lv_iload_n hxR hbR dX5_goesBy_161 rfl (lv_at hl 1 rfl) ?_
                    refine lv_iload_n hxR hbR dX5_goesBy_162 rfl (lv_at hl 2 rfl) ?_
                    refine lv_iload_n hxR hbR dX5_goesBy_163 rfl (lv_at hl 3 rfl) ?_
                    refine lv_aload_n hxR hbR dX5_goesBy_164 rfl (lv_at hl 0 rfl) ?_
                    refine r_get hxR hbR hts hown hK hI okX5 (ci := 5) rfl 16 mW_o 10 (by decide) q1488 rfl (v := .int (nI n)) (al (up_n (by decide) (up_n (by decide) hn))) dX5_goesBy_165 ?_
                    refine lv_iconst (v := 1) hxR hbR dX5_goesBy_168 (by decide) ?_
                    refine lv_isub hxR hbR dX5_goesBy_169 ?_
                    refine lv_as (y := nI (n - 1)) (pk_sub (a := n) (b := 1) (by omega)) ?_
                    refine lv_iload hxR hbR dX5_goesBy_170 (lv_at hl 4 rfl) ?_
                    refine lv_isub hxR hbR dX5_goesBy_172 ?_
                    refine lv_as (y := nI ((n - 1) - k)) (pk_sub (a := n - 1) (b := k) (by omega)) ?_
                    refine kVI (n := 4) (As := [.int (nI kd), .int (nI k9), .int (nI (nd y2 s)), .int (nI ((n - 1) - k))]) (rest := []) (fun w => w) hxR hbR hmlR hts hown hK hA hl.1 isCtx.id hI (c5_sentBy l E ad kp tr (va_up (va_up iv 30 c4) 33 (nI (wn2 + 1))) (va_up (va_up (va_up (va_up ia 29 g3) 31 (wrL (ia 31) 0 (comL (ia 11) n))) 32 (va_up gg wn2 (nI s))) 35 w3) K R mv n st kd k9 (nd y2 s) ((n - 1) - k) (up_n (by decide) (up_n (by decide) hn)) (up_n (by decide) (up_n (by decide) hst)) (by omega) (by first | omega | with_reducible assumption) (by first | omega | with_reducible assumption) (by first | omega | with_reducible assumption) (by first | omega | with_reducible assumption) (by first | omega | with_reducible assumption) (by first | omega | with_reducible assumption)) (lw_V q1668 q1670 qs37 q86 q1671) ⟨rfl, by decide +kernel⟩ 16 5 rfl rfl mW_o rfl (Nat.le_of_ble_eq_true rfl) (Nat.le_of_ble_eq_true rfl) ⟨Nat.le_of_ble_eq_true rfl, Nat.le_of_ble_eq_true rfl⟩ (Nat.le_of_ble_eq_true rfl) dX5_goesBy_173 (fun r_173 u H locs hp hI hz => ?_)
                    have hI : wI E AR sR H locs (mW E ad kp tr (va_up (va_up (va_up iv 30 c4) 33 (nI (wn2 + 1))) 30 (nI ((GL K n st).length))) (va_up (va_up (va_up (va_up (va_up ia 29 g3) 31 (wrL (ia 31) 0 (comL (ia 11) n))) 32 (va_up gg wn2 (nI s))) 35 w3) 29 (wrL (g3) 0 (GL K n st))) K R mv) := hI
                    have hI := wI_w (ws' := mW E ad kp tr (va_up (va_up iv 30 (nI ((GL K n st).length))) 33 (nI (wn2 + 1))) (va_up (va_up (va_up (va_up ia 29 (wrL (g3) 0 (GL K n st))) 31 (wrL (ia 31) 0 (comL (ia 11) n))) 32 (va_up gg wn2 (nI s))) 35 w3) K R mv) (by rw [(show (va_up (va_up iv 30 (nI ((GL K n st).length))) 33 (nI (wn2 + 1))) = (va_up (va_up (va_up iv 30 c4) 33 (nI (wn2 + 1))) 30 (nI ((GL K n st).length))) from ((up_s (by decide) up_0)).symm), (show (va_up (va_up (va_up (va_up ia 29 (wrL (g3) 0 (GL K n st))) 31 (wrL (ia 31) 0 (comL (ia 11) n))) 32 (va_up gg wn2 (nI s))) 35 w3) = (va_up (va_up (va_up (va_up (va_up ia 29 g3) 31 (wrL (ia 31) 0 (comL (ia 11) n))) 32 (va_up gg wn2 (nI s))) 35 w3) 29 (wrL (g3) 0 (GL K n st))) from ((up_s (by decide) (up_s (by decide) (up_s (by decide) up_0)))).symm)]) hI
                    have hI : wI E AR sR H locs (mW E ad kp tr (va_up (va_up iv 30 (nI ((GL K n st).length))) 33 (nI (wn2 + 1))) (va_up (va_up (va_up (va_up ia 29 (wrL (g3) 0 (GL K n st))) 31 (wrL (ia 31) 0 (comL (ia 11) n))) 32 (va_up gg wn2 (nI s))) 35 w3) K R mv) := hI
                    have hp : r_173 = nI (sentV K ((va_up (va_up (va_up (va_up ia 29 g3) 31 (wrL (ia 31) 0 (comL (ia 11) n))) 32 (va_up gg wn2 (nI s))) 35 w3) 12) n st kd k9 (nd y2 s) ((n - 1) - k)) := hp
                    have hr_173 := hp
                    subst hr_173
                    refine lv_istore (lv' := [(6, .int (nI (sentV K ((va_up (va_up (va_up (va_up ia 29 g3) 31 (wrL (ia 31) 0 (comL (ia 11) n))) 32 (va_up gg wn2 (nI s))) 35 w3) 12) n st kd k9 (nd y2 s) ((n - 1) - k)))), (0, .ref (ad 45)), (1, .int (nI kd)), (2, .int (nI k9)), (3, .int (nI (nd y2 s))), (4, .int (nI k)), (5, .int ((ia 11) ((comL (ia 11) n).getD k 0))), (7, .int (nI i))]) hxR hbR dX5_goesBy_176 hl (by decide) rfl (fun ls hl => ?_)
                    refine lv_goto (tgt := 67) hxR hbR dX5_goesBy_178 (by decide) ?_
                    exact ih_67 (sentV K ((va_up (va_up (va_up (va_up ia 29 g3) 31 (wrL (ia 31) 0 (comL (ia 11) n))) 32 (va_up gg wn2 (nI s))) 35 w3) 12) n st kd k9 (nd y2 s) ((n - 1) - k)) (nd y2 s) (cs2 ++ [s]) (f - 1) w3 (wn2 + 1) (va_up gg wn2 (nI s)) (nI ((GL K n st).length)) (wrL (g3) 0 (GL K n st)) rfl (by first | omega | with_reducible assumption) (by omega) (by rw [← hTT, sndF_s hf (hs ▸ c_69), hw3, show i = n by omega, hs]) (by rw [hwn2, List.length_append]; rfl) (by rw [hg2, hwn2, wrL_push]) (by rw [List.length_append]; simp only [List.length_singleton]; omega) (by omega) _ _ hI _ (lv_sub hl [1, 2, 3, 4, 5, 6, 0] rfl)
                  · skip
                    have c_106 : i < n := Nat.lt_of_not_le (fun zz => c_106 ((n_le (a := n) (b := i) (by omega) (by omega)).mpr zz))
                    refine lv_aload_n hxR hbR dX5_goesBy_109 rfl (lv_at hl 0 rfl) ?_
                    refine r_get hxR hbR hts hown hK hI okX5 (ci := 5) rfl 16 mW_o 35 (by decide) q1513 rfl (v := .ref (ad 35)) rfl dX5_goesBy_110 ?_
                    refine lv_iload hxR hbR dX5_goesBy_113 (lv_at hl 7 rfl) ?_
                    refine lv_iload hxR hbR dX5_goesBy_115 (lv_at hl 6 rfl) ?_
                    refine lv_iload hxR hbR dX5_goesBy_117 (lv_at hl 7 rfl) ?_
                    refine kSI (n := 2) (As := [.int (nI s), .int (nI i)]) (rest := [.int (nI i), .ref (ad 35)]) (fun w => w ++ (mW E ad kp tr (va_up (va_up iv 30 c4) 33 (nI (wn2 + 1))) (va_up (va_up (va_up (va_up ia 29 g3) 31 (wrL (ia 31) 0 (comL (ia 11) n))) 32 (va_up gg wn2 (nI s))) 35 w3) K R mv)) hxR hbR hmlR hts hown hK hA hl.1 (isCtx.suf _) hI (c5_has l E  s i (by first | omega | with_reducible assumption) (by first | omega | with_reducible assumption)) (lw_S q1680 q1681 q86 q1682) (by decide +kernel) rfl (Nat.le_of_ble_eq_true rfl) (Nat.le_of_ble_eq_true rfl) ⟨Nat.le_of_ble_eq_true rfl, Nat.le_of_ble_eq_true rfl⟩ (Nat.le_of_ble_eq_true rfl) dX5_goesBy_119 (fun r_119 u H locs hp hI hz => ?_)
                    have hI : wI E AR sR H locs (mW E ad kp tr (va_up (va_up iv 30 c4) 33 (nI (wn2 + 1))) (va_up (va_up (va_up (va_up ia 29 g3) 31 (wrL (ia 31) 0 (comL (ia 11) n))) 32 (va_up gg wn2 (nI s))) 35 w3) K R mv) := hI
                    have hp : r_119 = b2i (s.testBit i) := hp
                    have hr_119 := hp
                    rcases b2i_cases hr_119 with ⟨c_119, rfl⟩ | ⟨c_119, rfl⟩
                    · skip
                      have c_119 : s.testBit i = true := c_119
                      refine lv_if_eq (tgt := 146) hxR hbR dX5_goesBy_122 (by decide) (fun c => absurd c (by decide)) (fun _ => ?_)
                      refine lv_aload_n hxR hbR dX5_goesBy_125 rfl (lv_at hl 0 rfl) ?_
                      refine r_get hxR hbR hts hown hK hI okX5 (ci := 5) rfl 16 mW_o 12 (by decide) q1490 rfl (v := .ref (ad 12)) rfl dX5_goesBy_126 ?_
                      refine lv_iload hxR hbR dX5_goesBy_129 (lv_at hl 7 rfl) ?_
                      refine r_iald hxR hbR hK hI 27 (n := 8) (J := i) (f := ia 12) (v := (ia 12) i) (mW_g12 (up_n (by decide) (up_n (by decide) (up_n (by decide) (up_n (by decide) rfl))))) (by omega) (by decide) rfl dX5_goesBy_131 ?_
                      refine lv_iload hxR hbR dX5_goesBy_132 (lv_at hl 5 rfl) ?_
                      refine lv_aload_n hxR hbR dX5_goesBy_134 rfl (lv_at hl 0 rfl) ?_
                      refine r_get hxR hbR hts hown hK hI okX5 (ci := 5) rfl 16 mW_o 11 (by decide) q1489 rfl (v := .ref (ad 11)) rfl dX5_goesBy_135 ?_
                      refine lv_iload hxR hbR dX5_goesBy_138 (lv_at hl 7 rfl) ?_
                      refine r_iald hxR hbR hK hI 26 (n := 8) (J := i) (f := ia 11) (v := (ia 11) i) (mW_g11 (up_n (by decide) (up_n (by decide) (up_n (by decide) (up_n (by decide) rfl))))) (by omega) (by decide) rfl dX5_goesBy_140 ?_
                      refine lv_isub hxR hbR dX5_goesBy_141 ?_
                      refine lv_imul hxR hbR dX5_goesBy_142 ?_
                      refine lv_goto (tgt := 153) hxR hbR dX5_goesBy_143 (by decide) ?_
                      refine r_iast (ws1 := mW E ad kp tr (va_up (va_up iv 30 c4) 33 (nI (wn2 + 1))) (va_up (va_up (va_up (va_up ia 29 g3) 31 (wrL (ia 31) 0 (comL (ia 11) n))) 32 (va_up gg wn2 (nI s))) 35 (va_up w3 i (((ia 12) i) * (((ia 11) ((comL (ia 11) n).getD k 0)) - ((ia 11) i))))) K R mv) hxR hbR hK hI 33 (n := 7) (J := i) (f := w3) (mW_g35 va_up_s) (by omega) (by decide) (Eq.trans mW_a35 (mW_c2 up_0)) dX5_goesBy_153 (fun H locs hI => ?_)
                      refine lv_iinc (v := nI (i + 1)) (lv' := [(7, .int (nI (i + 1))), (0, .ref (ad 45)), (1, .int (nI kd)), (2, .int (nI k9)), (3, .int (nI (nd y2 s))), (4, .int (nI k)), (5, .int ((ia 11) ((comL (ia 11) n).getD k 0))), (6, .int (nI s))]) hxR hbR dX5_goesBy_154 hl (k := 7) rfl (show nI i + 1 = nI (i + 1) from nI_add _ 1) (by decide) rfl (fun ls hl => ?_)
                      refine lv_goto (tgt := 100) hxR hbR dX5_goesBy_157 (by decide) ?_
                      exact ih_100 (i + 1) (va_up w3 i (((ia 12) i) * (((ia 11) ((comL (ia 11) n).getD k 0)) - ((ia 11) i)))) (by first | omega | with_reducible assumption) (by rw [hw3]; first | exact leaveW_y c_119 | exact leaveW_n c_119) (by omega) _ _ hI _ (lv_sub hl [1, 2, 3, 4, 5, 6, 7, 0] rfl)
                    · skip
                      have c_119 : s.testBit i = false := c_119
                      refine lv_if_eq (tgt := 146) hxR hbR dX5_goesBy_122 (by decide) (fun _ => ?_) (fun c => absurd c (by decide))
                      refine lv_aload_n hxR hbR dX5_goesBy_146 rfl (lv_at hl 0 rfl) ?_
                      refine r_get hxR hbR hts hown hK hI okX5 (ci := 5) rfl 16 mW_o 35 (by decide) q1513 rfl (v := .ref (ad 35)) rfl dX5_goesBy_147 ?_
                      refine lv_iload hxR hbR dX5_goesBy_150 (lv_at hl 7 rfl) ?_
                      refine r_iald hxR hbR hK hI 33 (n := 7) (J := i) (f := w3) (v := w3 i) (mW_g35 va_up_s) (by omega) (by decide) rfl dX5_goesBy_152 ?_
                      refine r_iast (ws1 := mW E ad kp tr (va_up (va_up iv 30 c4) 33 (nI (wn2 + 1))) (va_up (va_up (va_up (va_up ia 29 g3) 31 (wrL (ia 31) 0 (comL (ia 11) n))) 32 (va_up gg wn2 (nI s))) 35 (va_up w3 i (w3 i))) K R mv) hxR hbR hK hI 33 (n := 7) (J := i) (f := w3) (mW_g35 va_up_s) (by omega) (by decide) (Eq.trans mW_a35 (mW_c2 up_0)) dX5_goesBy_153 (fun H locs hI => ?_)
                      refine lv_iinc (v := nI (i + 1)) (lv' := [(7, .int (nI (i + 1))), (0, .ref (ad 45)), (1, .int (nI kd)), (2, .int (nI k9)), (3, .int (nI (nd y2 s))), (4, .int (nI k)), (5, .int ((ia 11) ((comL (ia 11) n).getD k 0))), (6, .int (nI s))]) hxR hbR dX5_goesBy_154 hl (k := 7) rfl (show nI i + 1 = nI (i + 1) from nI_add _ 1) (by decide) rfl (fun ls hl => ?_)
                      refine lv_goto (tgt := 100) hxR hbR dX5_goesBy_157 (by decide) ?_
                      exact ih_100 (i + 1) (va_up w3 i (w3 i)) (by first | omega | with_reducible assumption) (by rw [hw3]; first | exact leaveW_y c_119 | exact leaveW_n c_119) (by omega) _ _ hI _ (lv_sub hl [1, 2, 3, 4, 5, 6, 7, 0] rfl)
              exact lp_100 _ 0 w2 (by first | omega | with_reducible assumption) (leaveW_0 _ _ _ _ _).symm (Nat.lt_succ_self _) _ _ hI _ (lv_sub hl [2, 3, 4, 1, 5, 6, 7, 0] rfl)
        exact lp_67 _ (sentV K ((va_up (va_up (va_up (va_up ia 29 g2) 31 (wrL (ia 31) 0 (comL (ia 11) n))) 32 g) 35 w) 12) n st kd k9 (y ||| (2 ^ ((comL (ia 11) n).getD k 0))) ((n - 1) - k)) (y ||| (2 ^ ((comL (ia 11) n).getD k 0))) cs 512 w wn g (nI ((GL K n st).length)) (wrL (g2) 0 (GL K n st)) rfl (by first | omega | with_reducible assumption) (by omega) (dayP_s hT) hwn hg (by have := bits_or y ((comL (ia 11) n).getD k 0) 8; omega) (Nat.lt_succ_self _) _ _ hI _ (lv_sub hl [3, 4, 5, 2, 6, 1, 0] rfl)
  exact lp_14 _ 0 0 ([]) (ia 35) 0 (ia 32) (iv 30) (ia 29) (by first | omega | with_reducible assumption) rfl rfl (wrL_nil _ _).symm (by first | omega | with_reducible assumption) (by decide) (Nat.lt_succ_self _) _ _ hI _ (lv_sub hl [2, 3, 4, 1, 0] rfl)
