theorem c5_ever (l : Launch) (E : En) (ad : Nat → Nat) (kp tr : Option Nat) (iv : Nat → Int32) (ia K : Nat → Nat → Int32) (R : Nat → Nat → Int64) (mv : Nat → Int64) (n st : Nat) (x : Int32) (hn : iv 10 = nI n) (hst : iv 14 = nI st) (hn7 : n ≤ 7) (hs2 : 2 ≤ st) (hs4 : st ≤ 4) : CtI l E yX5_ever cX5_ever 2 .int 60 1 40 [.ref (ad 45), .int x] (mW E ad kp tr iv ia K R mv) (fun (r : Int32) (u : Int32 × (Nat → Int32) × Int32 × Int32) => r = everV K n st x) (fun (u : Int32 × (Nat → Int32) × Int32 × Int32) => mW E ad kp tr (va_up (va_up (va_up iv 30 u.1) 37 u.2.2.1) 38 u.2.2.2) (va_up (va_up ia 9 (bumpR (ia 9) (everC x))) 29 u.2.1) K R mv) := by
  refine CtI.of (by decide +kernel) (Nat.le_of_ble_eq_true rfl) ?_
  intro pR eR sR mR aR bR tR cR AR ls QR hxR hbR hmlR hts hown hlk hnm hA hK hI hl hret
  have hl : lv_has ls 2 [(0, .ref (ad 45)), (1, .int x)] := hl
  refine lv_iload_n hxR hbR dX5_ever_0 rfl (lv_at hl 1 rfl) ?_
  refine lv_i2l (v := x.toInt64) hxR hbR dX5_ever_1 rfl ?_
  refine lv_lconst (v := 0) hxR hbR dX5_ever_2 (by decide) ?_
  refine lv_lconst (v := 1) hxR hbR dX5_ever_3 (by decide) ?_
  refine kSI (n := 3) (As := [.long x.toInt64, .long (0 : Int64), .long (1 : Int64)]) (rest := []) (fun w => w ++ (mW E ad kp tr iv ia K R mv)) hxR hbR hmlR hts hown hK hA hl.1 (isCtx.suf _) hI (c5_in l E  x.toInt64 (0 : Int64) (1 : Int64) ) (lw_S q1619 q1620 q86 q1621) (by decide +kernel) rfl (Nat.le_of_ble_eq_true rfl) (Nat.le_of_ble_eq_true rfl) ⟨Nat.le_of_ble_eq_true rfl, Nat.le_of_ble_eq_true rfl⟩ (Nat.le_of_ble_eq_true rfl) dX5_ever_4 (fun r_4 u H locs hp hI hz => ?_)
  have hI : wI E AR sR H locs (mW E ad kp tr iv ia K R mv) := hI
  have hp : r_4 = b2i (inL x.toInt64 (0 : Int64) (1 : Int64)) := hp
  have hr_4 := hp
  rcases b2i_cases hr_4 with ⟨c_4, rfl⟩ | ⟨c_4, rfl⟩
  · skip
    have c_4 : (0 : Int64).toInt ≤ x.toInt64.toInt ∧ x.toInt64.toInt ≤ (1 : Int64).toInt := of_decide_eq_true c_4
    have c_4 : 0 ≤ x.toInt ∧ x.toInt ≤ 1 := by rw [Int32.toInt_toInt64] at c_4; exact c_4
    refine lv_if_ne (tgt := 17) hxR hbR dX5_ever_7 (by decide) (fun _ => ?_) (fun c => absurd c (by decide))
    refine lv_aload_n hxR hbR dX5_ever_17 rfl (lv_at hl 0 rfl) ?_
    refine kVV (n := 0) (As := []) (rest := []) (fun w => w) hxR hbR hmlR hts hown hK hA hl.1 isCtx.id hI (c5_findEver l E ad kp tr iv ia K R mv n st hn hst (by first | omega | with_reducible assumption) (by first | omega | with_reducible assumption) (by first | omega | with_reducible assumption)) (lw_V q1950 q1952 qs72 q86 q1953) ⟨rfl, by decide +kernel⟩ 16 5 rfl rfl mW_o rfl (Nat.le_of_ble_eq_true rfl) (Nat.le_of_ble_eq_true rfl) ⟨Nat.le_of_ble_eq_true rfl, Nat.le_of_ble_eq_true rfl⟩ (Nat.le_of_ble_eq_true rfl) dX5_ever_18 (fun u H locs hp hI hz => ?_)
    obtain ⟨c30_18, g29_18⟩ := u
    have hI : wI E AR sR H locs (mW E ad kp tr (va_up (va_up (va_up iv 30 c30_18) 37 (nI (ever1 K n st))) 38 (ever2 K n st)) (va_up ia 29 g29_18) K R mv) := hI
    refine lv_iload_n hxR hbR dX5_ever_21 rfl (lv_at hl 1 rfl) ?_
    refine lv_if_ne (tgt := 32) hxR hbR dX5_ever_22 (by decide) (fun c_22 => ?_) (fun c_22 => ?_)
    · skip
      refine lv_aload_n hxR hbR dX5_ever_32 rfl (lv_at hl 0 rfl) ?_
      refine r_get hxR hbR hts hown hK hI okX5 (ci := 5) rfl 16 mW_o 38 (by decide) q1516 rfl (v := .int (ever2 K n st)) (al va_up_s) dX5_ever_33 ?_
      have hI : wI E AR sR H locs (mW E ad kp tr (va_up (va_up (va_up iv 30 c30_18) 37 (nI (ever1 K n st))) 38 (ever2 K n st)) (va_up (va_up ia 9 (bumpR (ia 9) (everC x))) 29 g29_18) K R mv) := by rw [everC_t c_4, bump_0, va_up_id (f := ia) (k := 9) rfl]; exact hI
      exact hret (c30_18, g29_18, nI (ever1 K n st), (ever2 K n st)) (ever2 K n st) _ _ _ _ _ _ dX5_ever_36 hI (by show (ever2 K n st) = everV K n st x; first | rw [everV_0 c_22] | rw [everV_1 c_4 c_22]) (Nat.le_of_ble_eq_true rfl) (Nat.le_of_ble_eq_true rfl) rfl
    · skip
      refine lv_aload_n hxR hbR dX5_ever_25 rfl (lv_at hl 0 rfl) ?_
      refine r_get hxR hbR hts hown hK hI okX5 (ci := 5) rfl 16 mW_o 37 (by decide) q1515 rfl (v := .int (nI (ever1 K n st))) (al (up_n (by decide) va_up_s)) dX5_ever_26 ?_
      refine lv_goto (tgt := 36) hxR hbR dX5_ever_29 (by decide) ?_
      have hI : wI E AR sR H locs (mW E ad kp tr (va_up (va_up (va_up iv 30 c30_18) 37 (nI (ever1 K n st))) 38 (ever2 K n st)) (va_up (va_up ia 9 (bumpR (ia 9) (everC x))) 29 g29_18) K R mv) := by rw [everC_t c_4, bump_0, va_up_id (f := ia) (k := 9) rfl]; exact hI
      exact hret (c30_18, g29_18, nI (ever1 K n st), (ever2 K n st)) (nI (ever1 K n st)) _ _ _ _ _ _ dX5_ever_36 hI (by show (nI (ever1 K n st)) = everV K n st x; first | rw [everV_0 c_22] | rw [everV_1 c_4 c_22]) (Nat.le_of_ble_eq_true rfl) (Nat.le_of_ble_eq_true rfl) rfl
  · skip
    have c_4 : ¬ ((0 : Int64).toInt ≤ x.toInt64.toInt ∧ x.toInt64.toInt ≤ (1 : Int64).toInt) := of_decide_eq_false c_4
    have c_4 : ¬ (0 ≤ x.toInt ∧ x.toInt ≤ 1) := by rw [Int32.toInt_toInt64] at c_4; exact c_4
    refine lv_if_ne (tgt := 17) hxR hbR dX5_ever_7 (by decide) (fun c => absurd c (by decide)) (fun _ => ?_)
    refine lv_aload_n hxR hbR dX5_ever_10 rfl (lv_at hl 0 rfl) ?_
    refine lv_bipush (v := (-2)) hxR hbR dX5_ever_11 (by decide) ?_
    refine kVI (n := 1) (As := [.int (-2)]) (rest := []) (fun w => w) hxR hbR hmlR hts hown hK hA hl.1 isCtx.id hI (c5_refuse l E ad kp tr iv ia K R mv (-2) 2 (by decide) (by decide)) (lw_V q1624 q1626 qs34 q86 q1627) ⟨rfl, by decide +kernel⟩ 16 5 rfl rfl mW_o rfl (Nat.le_of_ble_eq_true rfl) (Nat.le_of_ble_eq_true rfl) ⟨Nat.le_of_ble_eq_true rfl, Nat.le_of_ble_eq_true rfl⟩ (Nat.le_of_ble_eq_true rfl) dX5_ever_13 (fun r_13 u H locs hp hI hz => ?_)
    have hI : wI E AR sR H locs (mW E ad kp tr iv (va_up ia 9 (va_up (ia 9) 2 (ia 9 2 + 1))) K R mv) := hI
    have hp : r_13 = (-2) := hp
    have hr_13 := hp
    subst hr_13
    have hI : wI E AR sR H locs (mW E ad kp tr (va_up (va_up (va_up iv 30 (iv 30)) 37 (iv 37)) 38 (iv 38)) (va_up (va_up ia 9 (bumpR (ia 9) (everC x))) 29 (ia 29)) K R mv) := by rw [everC_f c_4, bump_2, va_up_id (f := iv) (k := 30) rfl]; exact hI
    exact hret (iv 30, ia 29, iv 37, iv 38) (-2) _ _ _ _ _ _ dX5_ever_16 hI (by show (-2) = everV K n st x; rw [everV_f c_4]) (Nat.le_of_ble_eq_true rfl) (Nat.le_of_ble_eq_true rfl) rfl

theorem c5_leastFrom (l : Launch) (E : En) : ∀ (r : Nat) (ad : Nat → Nat) (kp tr : Option Nat) (iv : Nat → Int32) (ia K : Nat → Nat → Int32) (R : Nat → Nat → Int64) (mv : Nat → Int64) (L : List Nat) (com : Nat → Nat) (n k lf : Nat) (hn : iv 10 = nI n) (hc : iv 30 = nI L.length) (hL : isL (ia 29) L) (hn7 : n ≤ 7) (hr : r = 2 * (n - k) + bitsN lf 8) (hk : k ≤ n) (hl7 : lf < 128) (hcm : ∀ j, j < n → ia 31 j = nI (com j)) (hcl : ∀ j, j < n → com j < n) (hm : lsMm L com (ia 12) (ia 11) n (ia 36)), CtI l E yX5_leastFrom cX5_leastFrom 9 .int (r + 2) 0 0 [.ref (ad 45), .int (nI k), .int (nI lf)] (mW E ad kp tr iv ia K R mv) (fun (r : Int32) (u : (Nat → Int32)) => r = lsV L com (ia 12) (ia 11) n k lf ∧ lsMm L com (ia 12) (ia 11) n u) (fun (u : (Nat → Int32)) => mW E ad kp tr iv (va_up ia 36 u) K R mv) := by
  intro r
  induction r using Nat.strongRecOn with
  | _ r ih =>
    intro ad kp tr iv ia K R mv L com n k lf hn hc hL hn7 hr hk hl7 hcm hcl hm
    refine CtI.of (by decide +kernel) (Nat.le_of_ble_eq_true rfl) ?_
    intro pR eR sR mR aR bR tR cR AR ls QR hxR hbR hmlR hts hown hlk hnm hA hK hI hl hret
    have hl : lv_has ls 9 [(0, .ref (ad 45)), (1, .int (nI k)), (2, .int (nI lf))] := hl
    have hl70 := hL.2.1
    refine lv_iload_n hxR hbR dX5_leastFrom_0 rfl (lv_at hl 1 rfl) ?_
    refine lv_bipush (v := 7) hxR hbR dX5_leastFrom_1 (by decide) ?_
    refine lv_ishl hxR hbR dX5_leastFrom_3 ?_
    refine lv_as (y := nI (k * 128)) (ls_sh k (by omega)) ?_
    refine lv_iload_n hxR hbR dX5_leastFrom_4 rfl (lv_at hl 2 rfl) ?_
    refine lv_ior hxR hbR dX5_leastFrom_5 ?_
    refine lv_as (y := nI ((k * 128) ||| lf)) (nb_or (k * 128) lf) ?_
    refine lv_as (y := nI (k * 128 + lf)) (ls_or hl7) ?_
    refine lv_istore_n (lv' := [(3, .int (nI (k * 128 + lf))), (0, .ref (ad 45)), (1, .int (nI k)), (2, .int (nI lf))]) hxR hbR dX5_leastFrom_6 rfl hl (by decide) rfl (fun ls hl => ?_)
    refine lv_aload_n hxR hbR dX5_leastFrom_7 rfl (lv_at hl 1 rfl) ?_
    refine r_get hxR hbR hts hown hK hI okX5 (ci := 5) rfl 16 mW_o 36 (by decide) q1514 rfl (v := .ref (ad 36)) rfl dX5_leastFrom_8 ?_
    refine lv_iload_n hxR hbR dX5_leastFrom_11 rfl (lv_at hl 0 rfl) ?_
    refine r_iald hxR hbR hK hI 34 (n := 1024) (J := k * 128 + lf) (f := ia 36) (v := (ia 36) (k * 128 + lf)) (mW_g36 rfl) (by omega) (by decide) rfl dX5_leastFrom_12 ?_
    refine lv_if_lt (tgt := 23) hxR hbR dX5_leastFrom_13 (by decide) (fun c_13 => ?_) (fun c_13 => ?_)
    · skip
      have hI := wI_w (ws' := mW E ad kp tr iv (va_up ia 36 (ia 36)) K R mv) (by rw [va_up_id (f := ia) (k := 36) (v := ia 36) rfl]) hI
      have cut_116 : ∀ (a : Int32) (m1 : Nat → Int32), (a = lsB L com (ia 12) (ia 11) n k lf) → (lsMm L com (ia 12) (ia 11) n m1) → ∀ (H : Heap) (locs : List Loc), wI E AR sR H locs (mW E ad kp tr iv (va_up ia 36 m1) K R mv) → ∀ ls : Array Slot, lv_has ls 9 [(0, .ref (ad 45)), (1, .int (nI k)), (2, .int (nI lf)), (3, .int (nI (k * 128 + lf))), (4, .int a)] → W pR l eR (rmF (r + 2) 0 0) sR mR aR bR tR cR H locs 0 0 QR (F0 mR 116 ls []) := by
        intro a m1 ha hm1 H locs hI ls hl
        have cut_139 : ∀ (now : Int32), (now = lsN com (ia 11) k) → ∀ (H : Heap) (locs : List Loc), wI E AR sR H locs (mW E ad kp tr iv (va_up ia 36 m1) K R mv) → ∀ ls : Array Slot, lv_has ls 9 [(0, .ref (ad 45)), (1, .int (nI k)), (2, .int (nI lf)), (3, .int (nI (k * 128 + lf))), (4, .int a), (5, .int now)] → W pR l eR (rmF (r + 2) 0 0) sR mR aR bR tR cR H locs 0 0 QR (F0 mR 139 ls []) := by
          intro now hnow H locs hI ls hl
          refine lv_iconst (v := 0) hxR hbR dX5_leastFrom_139 (by decide) ?_
          refine lv_istore (lv' := [(6, .int 0), (0, .ref (ad 45)), (1, .int (nI k)), (2, .int (nI lf)), (3, .int (nI (k * 128 + lf))), (4, .int a), (5, .int now)]) hxR hbR dX5_leastFrom_140 hl (by decide) rfl (fun ls hl => ?_)
          have lp_142 : ∀ (fu : Nat) (i : Nat) (b : Int32) (m2 : Nat → Int32), (i ≤ L.length) → ((L.drop i).foldl (lsG L com (ia 12) (ia 11) n k lf) b = lsV L com (ia 12) (ia 11) n k lf) → (lsMm L com (ia 12) (ia 11) n m2) → L.length - i < fu → ∀ (H : Heap) (locs : List Loc), wI E AR sR H locs (mW E ad kp tr iv (va_up ia 36 m2) K R mv) → ∀ ls : Array Slot, lv_has ls 9 [(0, .ref (ad 45)), (1, .int (nI k)), (2, .int (nI lf)), (3, .int (nI (k * 128 + lf))), (4, .int b), (5, .int now), (6, .int (nI i))] → W pR l eR (rmF (r + 2) 0 0) sR mR aR bR tR cR H locs 0 0 QR (F0 mR 142 ls []) := by
            intro fu
            induction fu with
            | zero =>
              intro i b m2 hi hb hmm hfu
              exact absurd hfu (Nat.not_lt_zero _)
            | succ fu ih_142 =>
              intro i b m2 hi hb hmm hfu H locs hI ls hl
              refine lv_iload hxR hbR dX5_leastFrom_142 (lv_at hl 6 rfl) ?_
              refine lv_aload_n hxR hbR dX5_leastFrom_144 rfl (lv_at hl 0 rfl) ?_
              refine r_get hxR hbR hts hown hK hI okX5 (ci := 5) rfl 16 mW_o 30 (by decide) q1508 rfl (v := .int (nI L.length)) (al hc) dX5_leastFrom_145 ?_
              refine lv_icmp_ge (tgt := 274) hxR hbR dX5_leastFrom_148 (by decide) (fun c_148 => ?_) (fun c_148 => ?_)
              · skip
                have c_148 : L.length ≤ i := (n_le (a := L.length) (b := i) (by omega) (by omega)).mp c_148
                refine lv_aload_n hxR hbR dX5_leastFrom_274 rfl (lv_at hl 0 rfl) ?_
                refine r_get hxR hbR hts hown hK hI okX5 (ci := 5) rfl 16 mW_o 36 (by decide) q1514 rfl (v := .ref (ad 36)) rfl dX5_leastFrom_275 ?_
                refine lv_iload_n hxR hbR dX5_leastFrom_278 rfl (lv_at hl 3 rfl) ?_
                refine lv_iload hxR hbR dX5_leastFrom_279 (lv_at hl 4 rfl) ?_
                refine r_iast (ws1 := mW E ad kp tr iv (va_up ia 36 (va_up m2 (k * 128 + lf) b)) K R mv) hxR hbR hK hI 34 (n := 1024) (J := k * 128 + lf) (f := m2) (mW_g36 va_up_s) (by omega) (by decide) (Eq.trans mW_a36 (mW_c2 up_0)) dX5_leastFrom_281 (fun H locs hI => ?_)
                refine lv_iload hxR hbR dX5_leastFrom_282 (lv_at hl 4 rfl) ?_
                have hI : wI E AR sR H locs (mW E ad kp tr iv (va_up ia 36 (va_up m2 (k * 128 + lf) b)) K R mv) := by exact hI
                exact hret (va_up m2 (k * 128 + lf) b) b _ _ _ _ _ _ dX5_leastFrom_284 hI (by show b = lsV L com (ia 12) (ia 11) n k lf ∧ lsMm L com (ia 12) (ia 11) n (va_up m2 (k * 128 + lf) b); exact ⟨foldl_e3 c_148 hb, hmm.put hl7 (foldl_e3 c_148 hb)⟩) (Nat.le_of_ble_eq_true rfl) (Nat.le_of_ble_eq_true rfl) rfl
              · skip
                have c_148 : i < L.length := Nat.lt_of_not_le (fun zz => c_148 ((n_le (a := L.length) (b := i) (by omega) (by omega)).mpr zz))
                refine lv_aload_n hxR hbR dX5_leastFrom_151 rfl (lv_at hl 0 rfl) ?_
                refine r_get hxR hbR hts hown hK hI okX5 (ci := 5) rfl 16 mW_o 29 (by decide) q1507 rfl (v := .ref (ad 29)) rfl dX5_leastFrom_152 ?_
                refine lv_iload hxR hbR dX5_leastFrom_155 (lv_at hl 6 rfl) ?_
                refine r_iald hxR hbR hK hI 30 (n := 70) (J := i) (f := ia 29) (v := nI (L.getD i 0)) (mW_g29 (up_n (by decide) rfl)) (by omega) (by decide) (hL.at (by omega)) dX5_leastFrom_157 ?_
                refine lv_iload_n hxR hbR dX5_leastFrom_158 rfl (lv_at hl 2 rfl) ?_
                refine lv_iconst (v := (-1)) hxR hbR dX5_leastFrom_159 (by decide) ?_
                refine lv_ixor hxR hbR dX5_leastFrom_160 ?_
                refine lv_iand hxR hbR dX5_leastFrom_161 ?_
                refine lv_as (y := nI (nd (L.getD i 0) lf)) (nb_nd (L.getD i 0) lf) ?_
                refine lv_if_ne (tgt := 268) hxR hbR dX5_leastFrom_162 (by decide) (fun c_162 => ?_) (fun c_162 => ?_)
                · skip
                  have c_162 : ¬ (nd (L.getD i 0) lf) = 0 := fun zz => c_162 ((n_eq (a := (nd (L.getD i 0) lf)) (b := 0) (by have := nd_le (L.getD i 0) lf; have := hL.lt c_148; omega) (by decide)).mpr zz)
                  refine lv_iinc (v := nI (i + 1)) (lv' := [(6, .int (nI (i + 1))), (0, .ref (ad 45)), (1, .int (nI k)), (2, .int (nI lf)), (3, .int (nI (k * 128 + lf))), (4, .int b), (5, .int now)]) hxR hbR dX5_leastFrom_268 hl (k := 6) rfl (show nI i + 1 = nI (i + 1) from nI_add _ 1) (by decide) rfl (fun ls hl => ?_)
                  refine lv_goto (tgt := 142) hxR hbR dX5_leastFrom_271 (by decide) ?_
                  exact ih_142 (i + 1) b m2 (by first | omega | with_reducible assumption) (by first | (have z := foldl_d3 c_148 hb; rw [lsG_n c_162] at z; exact z) | exact (lsG_1 c_162 hww c_256) ▸ foldl_d3 c_148 hb | exact (lsG_2 c_162 hww c_256) ▸ foldl_d3 c_148 hb) (by first | omega | with_reducible assumption) (by omega) _ _ hI _ (lv_sub hl [1, 2, 3, 4, 5, 6, 0] rfl)
                · skip
                  have c_162 : (nd (L.getD i 0) lf) = 0 := (n_eq (a := (nd (L.getD i 0) lf)) (b := 0) (by have := nd_le (L.getD i 0) lf; have := hL.lt c_148; omega) (by decide)).mp c_162
                  have hlt := hL.lt c_148
                  have hnl := nd_lt c_162 (hL.ne c_148)
                  have hbn := bits_nd c_162 8
                  have hp8 := bits_pos 8 (hL.lt c_148) (hL.ne c_148)
                  refine lv_iconst (v := (-1)) hxR hbR dX5_leastFrom_165 (by decide) ?_
                  refine lv_istore (lv' := [(7, .int (-1)), (0, .ref (ad 45)), (1, .int (nI k)), (2, .int (nI lf)), (3, .int (nI (k * 128 + lf))), (4, .int b), (5, .int now), (6, .int (nI i))]) hxR hbR dX5_leastFrom_166 hl (by decide) rfl (fun ls hl => ?_)
                  refine lv_iconst (v := 0) hxR hbR dX5_leastFrom_168 (by decide) ?_
                  refine lv_istore (lv' := [(8, .int 0), (7, .int (-1)), (0, .ref (ad 45)), (1, .int (nI k)), (2, .int (nI lf)), (3, .int (nI (k * 128 + lf))), (4, .int b), (5, .int now), (6, .int (nI i))]) hxR hbR dX5_leastFrom_169 hl (by decide) rfl (fun ls hl => ?_)
                  have lp_171 : ∀ (fu : Nat) (p : Nat) (w : Int32), (p ≤ n) → (w = -1 + sumS (fun p => 10 * ia 12 p * (now - ia 11 p)) (L.getD i 0) p) → n - p < fu → ∀ (H : Heap) (locs : List Loc), wI E AR sR H locs (mW E ad kp tr iv (va_up ia 36 m2) K R mv) → ∀ ls : Array Slot, lv_has ls 9 [(0, .ref (ad 45)), (1, .int (nI k)), (2, .int (nI lf)), (3, .int (nI (k * 128 + lf))), (4, .int b), (5, .int now), (6, .int (nI i)), (7, .int w), (8, .int (nI p))] → W pR l eR (rmF (r + 2) 0 0) sR mR aR bR tR cR H locs 0 0 QR (F0 mR 171 ls []) := by
                    intro fu
                    induction fu with
                    | zero =>
                      intro p w hp hw hfu
                      exact absurd hfu (Nat.not_lt_zero _)
                    | succ fu ih_171 =>
                      intro p w hp hw hfu H locs hI ls hl
                      refine lv_iload hxR hbR dX5_leastFrom_171 (lv_at hl 8 rfl) ?_
                      refine lv_aload_n hxR hbR dX5_leastFrom_173 rfl (lv_at hl 0 rfl) ?_
                      refine r_get hxR hbR hts hown hK hI okX5 (ci := 5) rfl 16 mW_o 10 (by decide) q1488 rfl (v := .int (nI n)) (al hn) dX5_leastFrom_174 ?_
                      refine lv_icmp_ge (tgt := 231) hxR hbR dX5_leastFrom_177 (by decide) (fun c_177 => ?_) (fun c_177 => ?_)
                      · skip
                        have c_177 : n ≤ p := (n_le (a := n) (b := p) (by omega) (by omega)).mp c_177
                        have hww : w = lsW (ia 12) (ia 11) (lsN com (ia 11) k) (L.getD i 0) n := by rw [hw, show p = n by omega, hnow]; rfl
                        refine lv_iload hxR hbR dX5_leastFrom_231 (lv_at hl 7 rfl) ?_
                        refine lv_aload_n hxR hbR dX5_leastFrom_233 rfl (lv_at hl 0 rfl) ?_
                        refine lv_iload_n hxR hbR dX5_leastFrom_234 rfl (lv_at hl 1 rfl) ?_
                        refine lv_iload_n hxR hbR dX5_leastFrom_235 rfl (lv_at hl 2 rfl) ?_
                        refine lv_aload_n hxR hbR dX5_leastFrom_236 rfl (lv_at hl 0 rfl) ?_
                        refine r_get hxR hbR hts hown hK hI okX5 (ci := 5) rfl 16 mW_o 29 (by decide) q1507 rfl (v := .ref (ad 29)) rfl dX5_leastFrom_237 ?_
                        refine lv_iload hxR hbR dX5_leastFrom_240 (lv_at hl 6 rfl) ?_
                        refine r_iald hxR hbR hK hI 30 (n := 70) (J := i) (f := ia 29) (v := nI (L.getD i 0)) (mW_g29 (up_n (by decide) rfl)) (by omega) (by decide) (hL.at (by omega)) dX5_leastFrom_242 ?_
                        refine lv_iconst (v := (-1)) hxR hbR dX5_leastFrom_243 (by decide) ?_
                        refine lv_ixor hxR hbR dX5_leastFrom_244 ?_
                        refine lv_iand hxR hbR dX5_leastFrom_245 ?_
                        refine lv_as (y := nI (nd lf (L.getD i 0))) (nb_nd lf (L.getD i 0)) ?_
                        refine kVI (n := 2) (As := [.int (nI k), .int (nI (nd lf (L.getD i 0)))]) (rest := [.int w]) (fun w => w) hxR hbR hmlR hts hown hK hA hl.1 isCtx.id hI (ih (2 * (n - k) + bitsN (nd lf (L.getD i 0)) 8) (by omega) ad kp tr iv (va_up ia 36 m2) K R mv L com n k (nd lf (L.getD i 0)) hn hc (isL.of (up_n (by decide) rfl) hL) (by first | omega | with_reducible assumption) rfl (by first | omega | with_reducible assumption) (by first | omega | with_reducible assumption) hcm hcl hmm) (lw_V q1930 q1932 qs70 q86 q1933) ⟨rfl, by decide +kernel⟩ 16 5 rfl rfl mW_o rfl (by omega) (Nat.le_of_ble_eq_true rfl) ⟨Nat.le_of_ble_eq_true rfl, Nat.le_of_ble_eq_true rfl⟩ (Nat.le_of_ble_eq_true rfl) dX5_leastFrom_246 (fun r_246 u H locs hp hI hz => ?_)
                        obtain ⟨m36_246, rfl⟩ : ∃ z, z = u := ⟨_, rfl⟩
                        have hI : wI E AR sR H locs (mW E ad kp tr iv (va_up (va_up ia 36 m2) 36 m36_246) K R mv) := hI
                        have hI := wI_w (ws' := mW E ad kp tr iv (va_up ia 36 m36_246) K R mv) (by rw [(show (va_up ia 36 m36_246) = (va_up (va_up ia 36 m2) 36 m36_246) from (up_0).symm)]) hI
                        have hI : wI E AR sR H locs (mW E ad kp tr iv (va_up ia 36 m36_246) K R mv) := hI
                        have hp : r_246 = lsV L com ((ia 12)) ((ia 11)) n k (nd lf (L.getD i 0)) ∧ lsMm L com ((ia 12)) ((ia 11)) n m36_246 := hp
                        obtain ⟨hr_246, hm2_246⟩ := hp
                        subst hr_246
                        refine lv_iadd hxR hbR dX5_leastFrom_249 ?_
                        refine lv_istore (lv' := [(8, .int (w + (lsV L com ((ia 12)) ((ia 11)) n k (nd lf (L.getD i 0))))), (0, .ref (ad 45)), (1, .int (nI k)), (2, .int (nI lf)), (3, .int (nI (k * 128 + lf))), (4, .int b), (5, .int now), (6, .int (nI i)), (7, .int w)]) hxR hbR dX5_leastFrom_250 hl (by decide) rfl (fun ls hl => ?_)
                        refine lv_iload hxR hbR dX5_leastFrom_252 (lv_at hl 0 rfl) ?_
                        refine lv_iload hxR hbR dX5_leastFrom_254 (lv_at hl 5 rfl) ?_
                        refine lv_icmp_ge (tgt := 264) hxR hbR dX5_leastFrom_256 (by decide) (fun c_256 => ?_) (fun c_256 => ?_)
                        · skip
                          refine lv_iload hxR hbR dX5_leastFrom_264 (lv_at hl 5 rfl) ?_
                          refine lv_istore (lv' := [(4, .int b), (8, .int (w + (lsV L com ((ia 12)) ((ia 11)) n k (nd lf (L.getD i 0))))), (0, .ref (ad 45)), (1, .int (nI k)), (2, .int (nI lf)), (3, .int (nI (k * 128 + lf))), (5, .int now), (6, .int (nI i)), (7, .int w)]) hxR hbR dX5_leastFrom_266 hl (by decide) rfl (fun ls hl => ?_)
                          refine lv_iinc (v := nI (i + 1)) (lv' := [(6, .int (nI (i + 1))), (4, .int b), (8, .int (w + (lsV L com ((ia 12)) ((ia 11)) n k (nd lf (L.getD i 0))))), (0, .ref (ad 45)), (1, .int (nI k)), (2, .int (nI lf)), (3, .int (nI (k * 128 + lf))), (5, .int now), (7, .int w)]) hxR hbR dX5_leastFrom_268 hl (k := 7) rfl (show nI i + 1 = nI (i + 1) from nI_add _ 1) (by decide) rfl (fun ls hl => ?_)
                          refine lv_goto (tgt := 142) hxR hbR dX5_leastFrom_271 (by decide) ?_
                          exact ih_142 (i + 1) b m36_246 (by first | omega | with_reducible assumption) (by first | (have z := foldl_d3 c_148 hb; rw [lsG_n c_162] at z; exact z) | exact (lsG_1 c_162 hww c_256) ▸ foldl_d3 c_148 hb | exact (lsG_2 c_162 hww c_256) ▸ foldl_d3 c_148 hb) (by first | omega | with_reducible assumption) (by omega) _ _ hI _ (lv_sub hl [3, 4, 5, 6, 1, 7, 0] rfl)
                        · skip
                          refine lv_iload hxR hbR dX5_leastFrom_259 (lv_at hl 0 rfl) ?_
                          refine lv_goto (tgt := 266) hxR hbR dX5_leastFrom_261 (by decide) ?_
                          refine lv_istore (lv' := [(4, .int (w + (lsV L com ((ia 12)) ((ia 11)) n k (nd lf (L.getD i 0))))), (8, .int (w + (lsV L com ((ia 12)) ((ia 11)) n k (nd lf (L.getD i 0))))), (0, .ref (ad 45)), (1, .int (nI k)), (2, .int (nI lf)), (3, .int (nI (k * 128 + lf))), (5, .int now), (6, .int (nI i)), (7, .int w)]) hxR hbR dX5_leastFrom_266 hl (by decide) rfl (fun ls hl => ?_)
                          refine lv_iinc (v := nI (i + 1)) (lv' := [(6, .int (nI (i + 1))), (4, .int (w + (lsV L com ((ia 12)) ((ia 11)) n k (nd lf (L.getD i 0))))), (8, .int (w + (lsV L com ((ia 12)) ((ia 11)) n k (nd lf (L.getD i 0))))), (0, .ref (ad 45)), (1, .int (nI k)), (2, .int (nI lf)), (3, .int (nI (k * 128 + lf))), (5, .int now), (7, .int w)]) hxR hbR dX5_leastFrom_268 hl (k := 7) rfl (show nI i + 1 = nI (i + 1) from nI_add _ 1) (by decide) rfl (fun ls hl => ?_)
                          refine lv_goto (tgt := 142) hxR hbR dX5_leastFrom_271 (by decide) ?_
                          exact ih_142 (i + 1) (w + (lsV L com ((ia 12)) ((ia 11)) n k (nd lf (L.getD i 0)))) m36_246 (by first | omega | with_reducible assumption) (by first | (have z := foldl_d3 c_148 hb; rw [lsG_n c_162] at z; exact z) | exact (lsG_1 c_162 hww c_256) ▸ foldl_d3 c_148 hb | exact (lsG_2 c_162 hww c_256) ▸ foldl_d3 c_148 hb) (by first | omega | with_reducible assumption) (by omega) _ _ hI _ (lv_sub hl [3, 4, 5, 6, 1, 7, 0] rfl)
                      · skip
                        have c_177 : p < n := Nat.lt_of_not_le (fun zz => c_177 ((n_le (a := n) (b := p) (by omega) (by omega)).mpr zz))
                        refine lv_iload hxR hbR dX5_leastFrom_180 (lv_at hl 7 rfl) ?_
                        refine lv_aload_n hxR hbR dX5_leastFrom_182 rfl (lv_at hl 0 rfl) ?_
                        refine r_get hxR hbR hts hown hK hI okX5 (ci := 5) rfl 16 mW_o 29 (by decide) q1507 rfl (v := .ref (ad 29)) rfl dX5_leastFrom_183 ?_
                        refine lv_iload hxR hbR dX5_leastFrom_186 (lv_at hl 6 rfl) ?_
                        refine r_iald hxR hbR hK hI 30 (n := 70) (J := i) (f := ia 29) (v := nI (L.getD i 0)) (mW_g29 (up_n (by decide) rfl)) (by omega) (by decide) (hL.at (by omega)) dX5_leastFrom_188 ?_
                        refine lv_iload hxR hbR dX5_leastFrom_189 (lv_at hl 8 rfl) ?_
                        refine kSI (n := 2) (As := [.int (nI (L.getD i 0)), .int (nI p)]) (rest := [.int w]) (fun w => w ++ (mW E ad kp tr iv (va_up ia 36 m2) K R mv)) hxR hbR hmlR hts hown hK hA hl.1 (isCtx.suf _) hI (c5_has l E  (L.getD i 0) p (by first | omega | with_reducible assumption) (by first | omega | with_reducible assumption)) (lw_S q1680 q1681 q86 q1682) (by decide +kernel) rfl (by omega) (Nat.le_of_ble_eq_true rfl) ⟨Nat.le_of_ble_eq_true rfl, Nat.le_of_ble_eq_true rfl⟩ (Nat.le_of_ble_eq_true rfl) dX5_leastFrom_191 (fun r_191 u H locs hp hI hz => ?_)
                        have hI : wI E AR sR H locs (mW E ad kp tr iv (va_up ia 36 m2) K R mv) := hI
                        have hp : r_191 = b2i ((L.getD i 0).testBit p) := hp
                        have hr_191 := hp
                        rcases b2i_cases hr_191 with ⟨c_191, rfl⟩ | ⟨c_191, rfl⟩
                        · skip
                          have c_191 : (L.getD i 0).testBit p = true := c_191
                          refine lv_if_eq (tgt := 221) hxR hbR dX5_leastFrom_194 (by decide) (fun c => absurd c (by decide)) (fun _ => ?_)
                          refine lv_bipush (v := 10) hxR hbR dX5_leastFrom_197 (by decide) ?_
                          refine lv_aload_n hxR hbR dX5_leastFrom_199 rfl (lv_at hl 0 rfl) ?_
                          refine r_get hxR hbR hts hown hK hI okX5 (ci := 5) rfl 16 mW_o 12 (by decide) q1490 rfl (v := .ref (ad 12)) rfl dX5_leastFrom_200 ?_
                          refine lv_iload hxR hbR dX5_leastFrom_203 (lv_at hl 8 rfl) ?_
                          refine r_iald hxR hbR hK hI 27 (n := 8) (J := p) (f := ia 12) (v := (ia 12) p) (mW_g12 (up_n (by decide) rfl)) (by omega) (by decide) rfl dX5_leastFrom_205 ?_
                          refine lv_imul hxR hbR dX5_leastFrom_206 ?_
                          refine lv_iload hxR hbR dX5_leastFrom_207 (lv_at hl 5 rfl) ?_
                          refine lv_aload_n hxR hbR dX5_leastFrom_209 rfl (lv_at hl 0 rfl) ?_
                          refine r_get hxR hbR hts hown hK hI okX5 (ci := 5) rfl 16 mW_o 11 (by decide) q1489 rfl (v := .ref (ad 11)) rfl dX5_leastFrom_210 ?_
                          refine lv_iload hxR hbR dX5_leastFrom_213 (lv_at hl 8 rfl) ?_
                          refine r_iald hxR hbR hK hI 26 (n := 8) (J := p) (f := ia 11) (v := (ia 11) p) (mW_g11 (up_n (by decide) rfl)) (by omega) (by decide) rfl dX5_leastFrom_215 ?_
                          refine lv_isub hxR hbR dX5_leastFrom_216 ?_
                          refine lv_imul hxR hbR dX5_leastFrom_217 ?_
                          refine lv_goto (tgt := 222) hxR hbR dX5_leastFrom_218 (by decide) ?_
                          refine lv_iadd hxR hbR dX5_leastFrom_222 ?_
                          refine lv_istore (lv' := [(7, .int (w + ((10 * ((ia 12) p)) * (now - ((ia 11) p))))), (0, .ref (ad 45)), (1, .int (nI k)), (2, .int (nI lf)), (3, .int (nI (k * 128 + lf))), (4, .int b), (5, .int now), (6, .int (nI i)), (8, .int (nI p))]) hxR hbR dX5_leastFrom_223 hl (by decide) rfl (fun ls hl => ?_)
                          refine lv_iinc (v := nI (p + 1)) (lv' := [(8, .int (nI (p + 1))), (7, .int (w + ((10 * ((ia 12) p)) * (now - ((ia 11) p))))), (0, .ref (ad 45)), (1, .int (nI k)), (2, .int (nI lf)), (3, .int (nI (k * 128 + lf))), (4, .int b), (5, .int now), (6, .int (nI i))]) hxR hbR dX5_leastFrom_225 hl (k := 8) rfl (show nI p + 1 = nI (p + 1) from nI_add _ 1) (by decide) rfl (fun ls hl => ?_)
                          refine lv_goto (tgt := 171) hxR hbR dX5_leastFrom_228 (by decide) ?_
                          exact ih_171 (p + 1) (w + ((10 * ((ia 12) p)) * (now - ((ia 11) p)))) (by first | omega | with_reducible assumption) (by first | exact lsW_y hw c_191 | exact lsW_n hw c_191) (by omega) _ _ hI _ (lv_sub hl [2, 3, 4, 5, 6, 7, 8, 1, 0] rfl)
                        · skip
                          have c_191 : (L.getD i 0).testBit p = false := c_191
                          refine lv_if_eq (tgt := 221) hxR hbR dX5_leastFrom_194 (by decide) (fun _ => ?_) (fun c => absurd c (by decide))
                          refine lv_iconst (v := 0) hxR hbR dX5_leastFrom_221 (by decide) ?_
                          refine lv_iadd hxR hbR dX5_leastFrom_222 ?_
                          refine lv_istore (lv' := [(7, .int (w + 0)), (0, .ref (ad 45)), (1, .int (nI k)), (2, .int (nI lf)), (3, .int (nI (k * 128 + lf))), (4, .int b), (5, .int now), (6, .int (nI i)), (8, .int (nI p))]) hxR hbR dX5_leastFrom_223 hl (by decide) rfl (fun ls hl => ?_)
                          refine lv_iinc (v := nI (p + 1)) (lv' := [(8, .int (nI (p + 1))), (7, .int (w + 0)), (0, .ref (ad 45)), (1, .int (nI k)), (2, .int (nI lf)), (3, .int (nI (k * 128 + lf))), (4, .int b), (5, .int now), (6, .int (nI i))]) hxR hbR dX5_leastFrom_225 hl (k := 8) rfl (show nI p + 1 = nI (p + 1) from nI_add _ 1) (by decide) rfl (fun ls hl => ?_)
                          refine lv_goto (tgt := 171) hxR hbR dX5_leastFrom_228 (by decide) ?_
                          exact ih_171 (p + 1) (w + 0) (by first | omega | with_reducible assumption) (by first | exact lsW_y hw c_191 | exact lsW_n hw c_191) (by omega) _ _ hI _ (lv_sub hl [2, 3, 4, 5, 6, 7, 8, 1, 0] rfl)
                  exact lp_171 _ 0 (-1) (by first | omega | with_reducible assumption) rfl (Nat.lt_succ_self _) _ _ hI _ (lv_sub hl [2, 3, 4, 5, 6, 7, 8, 1, 0] rfl)
          exact lp_142 _ 0 a m1 (by first | omega | with_reducible assumption) (by rw [ha]; exact lsV_eq hL.2.2 hk) (by first | omega | with_reducible assumption) (Nat.lt_succ_self _) _ _ hI _ (lv_sub hl [1, 2, 3, 4, 5, 6, 0] rfl)
        refine lv_iload_n hxR hbR dX5_leastFrom_116 rfl (lv_at hl 1 rfl) ?_
        refine lv_if_ne (tgt := 124) hxR hbR dX5_leastFrom_117 (by decide) (fun c_117 => ?_) (fun c_117 => ?_)
        · skip
          have c_117 : ¬ k = 0 := fun zz => c_117 ((n_eq (a := k) (b := 0) (by omega) (by omega)).mpr zz)
          refine lv_aload_n hxR hbR dX5_leastFrom_124 rfl (lv_at hl 0 rfl) ?_
          refine r_get hxR hbR hts hown hK hI okX5 (ci := 5) rfl 16 mW_o 11 (by decide) q1489 rfl (v := .ref (ad 11)) rfl dX5_leastFrom_125 ?_
          refine lv_aload_n hxR hbR dX5_leastFrom_128 rfl (lv_at hl 0 rfl) ?_
          refine r_get hxR hbR hts hown hK hI okX5 (ci := 5) rfl 16 mW_o 31 (by decide) q1509 rfl (v := .ref (ad 31)) rfl dX5_leastFrom_129 ?_
          refine lv_iload_n hxR hbR dX5_leastFrom_132 rfl (lv_at hl 1 rfl) ?_
          refine lv_iconst (v := 1) hxR hbR dX5_leastFrom_133 (by decide) ?_
          have hck3 := hcl (k - 1) (by omega)
          refine lv_isub hxR hbR dX5_leastFrom_134 ?_
          refine lv_as (y := nI (k - 1)) (pk_sub (a := k) (b := 1) (by omega)) ?_
          refine r_iald hxR hbR hK hI 31 (n := 7) (J := k - 1) (f := ia 31) (v := nI (com (k - 1))) (mW_g31 (up_n (by decide) rfl)) (by omega) (by decide) (hcm _ (by omega)) dX5_leastFrom_135 ?_
          refine r_iald hxR hbR hK hI 26 (n := 8) (J := com (k - 1)) (f := ia 11) (v := (ia 11) (com (k - 1))) (mW_g11 (up_n (by decide) rfl)) (by omega) (by decide) rfl dX5_leastFrom_136 ?_
          refine lv_istore (lv' := [(5, .int ((ia 11) (com (k - 1)))), (0, .ref (ad 45)), (1, .int (nI k)), (2, .int (nI lf)), (3, .int (nI (k * 128 + lf))), (4, .int a)]) hxR hbR dX5_leastFrom_137 hl (by decide) rfl (fun ls hl => ?_)
          exact cut_139 ((ia 11) (com (k - 1))) (by first | (rw [lsN, if_pos c_117]) | (rw [lsN, if_neg c_117])) _ _ hI _ (lv_sub hl [1, 2, 3, 4, 5, 0] rfl)
        · skip
          have c_117 : k = 0 := (n_eq (a := k) (b := 0) (by omega) (by omega)).mp c_117
          refine lv_iconst (v := 0) hxR hbR dX5_leastFrom_120 (by decide) ?_
          refine lv_goto (tgt := 137) hxR hbR dX5_leastFrom_121 (by decide) ?_
          refine lv_istore (lv' := [(5, .int 0), (0, .ref (ad 45)), (1, .int (nI k)), (2, .int (nI lf)), (3, .int (nI (k * 128 + lf))), (4, .int a)]) hxR hbR dX5_leastFrom_137 hl (by decide) rfl (fun ls hl => ?_)
          exact cut_139 0 (by first | (rw [lsN, if_pos c_117]) | (rw [lsN, if_neg c_117])) _ _ hI _ (lv_sub hl [1, 2, 3, 4, 5, 0] rfl)
      refine lv_iload_n hxR hbR dX5_leastFrom_23 rfl (lv_at hl 2 rfl) ?_
      refine lv_aload_n hxR hbR dX5_leastFrom_24 rfl (lv_at hl 1 rfl) ?_
      refine r_get hxR hbR hts hown hK hI okX5 (ci := 5) rfl 16 mW_o 10 (by decide) q1488 rfl (v := .int (nI n)) (al hn) dX5_leastFrom_25 ?_
      refine lv_icmp_ne (tgt := 97) hxR hbR dX5_leastFrom_28 (by decide) (fun c_28 => ?_) (fun c_28 => ?_)
      · skip
        have c_28 : ¬ k = n := fun zz => c_28 ((n_eq (a := k) (b := n) (by omega) (by omega)).mpr zz)
        refine lv_aload_n hxR hbR dX5_leastFrom_97 rfl (lv_at hl 1 rfl) ?_
        refine lv_iload_n hxR hbR dX5_leastFrom_98 rfl (lv_at hl 2 rfl) ?_
        refine lv_iconst (v := 1) hxR hbR dX5_leastFrom_99 (by decide) ?_
        refine lv_iadd hxR hbR dX5_leastFrom_100 ?_
        refine lv_as (y := nI (k + 1)) (nI_add k 1) ?_
        refine lv_iload_n hxR hbR dX5_leastFrom_101 rfl (lv_at hl 3 rfl) ?_
        refine lv_iconst (v := 1) hxR hbR dX5_leastFrom_102 (by decide) ?_
        refine lv_aload_n hxR hbR dX5_leastFrom_103 rfl (lv_at hl 1 rfl) ?_
        refine r_get hxR hbR hts hown hK hI okX5 (ci := 5) rfl 16 mW_o 31 (by decide) q1509 rfl (v := .ref (ad 31)) rfl dX5_leastFrom_104 ?_
        refine lv_iload_n hxR hbR dX5_leastFrom_107 rfl (lv_at hl 2 rfl) ?_
        have hck := hcl k (by omega)
        have hck2 : 2 ^ (com k) < 2 ^ 7 := Nat.pow_lt_pow_right (by decide) (by omega)
        have hyy := or_lt (n := 7) hl7 hck2
        have hbo := bits_or lf (com k) 8
        refine r_iald hxR hbR hK hI 31 (n := 7) (J := k) (f := ia 31) (v := nI (com k)) (mW_g31 (up_n (by decide) rfl)) (by omega) (by decide) (hcm _ (by omega)) dX5_leastFrom_108 ?_
        refine lv_ishl hxR hbR dX5_leastFrom_109 ?_
        refine lv_as (y := nI (2 ^ (com k))) (nb_shl (com k) (by omega)) ?_
        refine lv_ior hxR hbR dX5_leastFrom_110 ?_
        refine lv_as (y := nI (lf ||| (2 ^ (com k)))) (nb_or lf (2 ^ (com k))) ?_
        refine kVI (n := 2) (As := [.int (nI (k + 1)), .int (nI (lf ||| (2 ^ (com k))))]) (rest := []) (fun w => w) hxR hbR hmlR hts hown hK hA hl.1 isCtx.id hI (ih (2 * (n - (k + 1)) + bitsN (lf ||| 2 ^ com k) 8) (by omega) ad kp tr iv (va_up ia 36 (ia 36)) K R mv L com n (k + 1) (lf ||| (2 ^ (com k))) hn hc (isL.of (up_n (by decide) rfl) hL) (by first | omega | with_reducible assumption) rfl (by first | omega | with_reducible assumption) (by first | omega | with_reducible assumption) hcm hcl hm) (lw_V q1930 q1932 qs70 q86 q1933) ⟨rfl, by decide +kernel⟩ 16 5 rfl rfl mW_o rfl (by omega) (Nat.le_of_ble_eq_true rfl) ⟨Nat.le_of_ble_eq_true rfl, Nat.le_of_ble_eq_true rfl⟩ (Nat.le_of_ble_eq_true rfl) dX5_leastFrom_111 (fun r_111 u H locs hp hI hz => ?_)
        obtain ⟨m36_111, rfl⟩ : ∃ z, z = u := ⟨_, rfl⟩
        have hI : wI E AR sR H locs (mW E ad kp tr iv (va_up (va_up ia 36 (ia 36)) 36 m36_111) K R mv) := hI
        have hI := wI_w (ws' := mW E ad kp tr iv (va_up ia 36 m36_111) K R mv) (by rw [(show (va_up ia 36 m36_111) = (va_up (va_up ia 36 (ia 36)) 36 m36_111) from (up_0).symm)]) hI
        have hI : wI E AR sR H locs (mW E ad kp tr iv (va_up ia 36 m36_111) K R mv) := hI
        have hp : r_111 = lsV L com ((ia 12)) ((ia 11)) n (k + 1) (lf ||| (2 ^ (com k))) ∧ lsMm L com ((ia 12)) ((ia 11)) n m36_111 := hp
        obtain ⟨hr_111, hm2_111⟩ := hp
        subst hr_111
        refine lv_istore (lv' := [(4, .int (lsV L com ((ia 12)) ((ia 11)) n (k + 1) (lf ||| (2 ^ (com k))))), (3, .int (nI (k * 128 + lf))), (0, .ref (ad 45)), (1, .int (nI k)), (2, .int (nI lf))]) hxR hbR dX5_leastFrom_114 hl (by decide) rfl (fun ls hl => ?_)
        exact cut_116 (lsV L com ((ia 12)) ((ia 11)) n (k + 1) (lf ||| (2 ^ (com k)))) m36_111 (by first | (rw [ha, show i = n by omega, lsB, if_pos c_28]; rfl) | (rw [lsB, if_neg c_28])) (by first | omega | with_reducible assumption) _ _ hI _ (lv_sub hl [2, 3, 4, 1, 0] rfl)
      · skip
        have c_28 : k = n := (n_eq (a := k) (b := n) (by omega) (by omega)).mp c_28
        refine lv_iconst (v := 0) hxR hbR dX5_leastFrom_31 (by decide) ?_
        refine lv_istore (lv' := [(4, .int 0), (3, .int (nI (k * 128 + lf))), (0, .ref (ad 45)), (1, .int (nI k)), (2, .int (nI lf))]) hxR hbR dX5_leastFrom_32 hl (by decide) rfl (fun ls hl => ?_)
        refine lv_iconst (v := 0) hxR hbR dX5_leastFrom_34 (by decide) ?_
        refine lv_istore (lv' := [(5, .int 0), (4, .int 0), (3, .int (nI (k * 128 + lf))), (0, .ref (ad 45)), (1, .int (nI k)), (2, .int (nI lf))]) hxR hbR dX5_leastFrom_35 hl (by decide) rfl (fun ls hl => ?_)
        have lp_37 : ∀ (fu : Nat) (i : Nat) (a : Int32), (i ≤ n) → (a = sumS (fun p => 10 * ia 12 p * (24 - ia 11 p)) lf i) → n - i < fu → ∀ (H : Heap) (locs : List Loc), wI E AR sR H locs (mW E ad kp tr iv (va_up ia 36 (ia 36)) K R mv) → ∀ ls : Array Slot, lv_has ls 9 [(0, .ref (ad 45)), (1, .int (nI k)), (2, .int (nI lf)), (3, .int (nI (k * 128 + lf))), (4, .int a), (5, .int (nI i))] → W pR l eR (rmF (r + 2) 0 0) sR mR aR bR tR cR H locs 0 0 QR (F0 mR 37 ls []) := by
          intro fu
          induction fu with
          | zero =>
            intro i a hi ha hfu
            exact absurd hfu (Nat.not_lt_zero _)
          | succ fu ih_37 =>
            intro i a hi ha hfu H locs hI ls hl
            refine lv_iload hxR hbR dX5_leastFrom_37 (lv_at hl 5 rfl) ?_
            refine lv_aload_n hxR hbR dX5_leastFrom_39 rfl (lv_at hl 0 rfl) ?_
            refine r_get hxR hbR hts hown hK hI okX5 (ci := 5) rfl 16 mW_o 10 (by decide) q1488 rfl (v := .int (nI n)) (al hn) dX5_leastFrom_40 ?_
            refine lv_icmp_ge (tgt := 91) hxR hbR dX5_leastFrom_43 (by decide) (fun c_43 => ?_) (fun c_43 => ?_)
            · skip
              have c_43 : n ≤ i := (n_le (a := n) (b := i) (by omega) (by omega)).mp c_43
              refine lv_iinc (v := a + 9) (lv' := [(4, .int (a + 9)), (0, .ref (ad 45)), (1, .int (nI k)), (2, .int (nI lf)), (3, .int (nI (k * 128 + lf))), (5, .int (nI i))]) hxR hbR dX5_leastFrom_91 hl (k := 4) rfl rfl (by decide) rfl (fun ls hl => ?_)
              refine lv_goto (tgt := 116) hxR hbR dX5_leastFrom_94 (by decide) ?_
              exact cut_116 (a + 9) (ia 36) (by first | (rw [ha, show i = n by omega, lsB, if_pos c_28]; rfl) | (rw [lsB, if_neg c_28])) (by first | omega | with_reducible assumption) _ _ hI _ (lv_sub hl [1, 2, 3, 4, 0] rfl)
            · skip
              have c_43 : i < n := Nat.lt_of_not_le (fun zz => c_43 ((n_le (a := n) (b := i) (by omega) (by omega)).mpr zz))
              refine lv_iload hxR hbR dX5_leastFrom_46 (lv_at hl 4 rfl) ?_
              refine lv_iload_n hxR hbR dX5_leastFrom_48 rfl (lv_at hl 2 rfl) ?_
              refine lv_iload hxR hbR dX5_leastFrom_49 (lv_at hl 5 rfl) ?_
              refine kSI (n := 2) (As := [.int (nI lf), .int (nI i)]) (rest := [.int a]) (fun w => w ++ (mW E ad kp tr iv (va_up ia 36 (ia 36)) K R mv)) hxR hbR hmlR hts hown hK hA hl.1 (isCtx.suf _) hI (c5_has l E  lf i (by first | omega | with_reducible assumption) (by first | omega | with_reducible assumption)) (lw_S q1680 q1681 q86 q1682) (by decide +kernel) rfl (by omega) (Nat.le_of_ble_eq_true rfl) ⟨Nat.le_of_ble_eq_true rfl, Nat.le_of_ble_eq_true rfl⟩ (Nat.le_of_ble_eq_true rfl) dX5_leastFrom_51 (fun r_51 u H locs hp hI hz => ?_)
              have hI : wI E AR sR H locs (mW E ad kp tr iv (va_up ia 36 (ia 36)) K R mv) := hI
              have hp : r_51 = b2i (lf.testBit i) := hp
              have hr_51 := hp
              rcases b2i_cases hr_51 with ⟨c_51, rfl⟩ | ⟨c_51, rfl⟩
              · skip
                have c_51 : lf.testBit i = true := c_51
                refine lv_if_eq (tgt := 81) hxR hbR dX5_leastFrom_54 (by decide) (fun c => absurd c (by decide)) (fun _ => ?_)
                refine lv_bipush (v := 10) hxR hbR dX5_leastFrom_57 (by decide) ?_
                refine lv_aload_n hxR hbR dX5_leastFrom_59 rfl (lv_at hl 0 rfl) ?_
                refine r_get hxR hbR hts hown hK hI okX5 (ci := 5) rfl 16 mW_o 12 (by decide) q1490 rfl (v := .ref (ad 12)) rfl dX5_leastFrom_60 ?_
                refine lv_iload hxR hbR dX5_leastFrom_63 (lv_at hl 5 rfl) ?_
                refine r_iald hxR hbR hK hI 27 (n := 8) (J := i) (f := ia 12) (v := (ia 12) i) (mW_g12 (up_n (by decide) rfl)) (by omega) (by decide) rfl dX5_leastFrom_65 ?_
                refine lv_imul hxR hbR dX5_leastFrom_66 ?_
                refine lv_bipush (v := 24) hxR hbR dX5_leastFrom_67 (by decide) ?_
                refine lv_aload_n hxR hbR dX5_leastFrom_69 rfl (lv_at hl 0 rfl) ?_
                refine r_get hxR hbR hts hown hK hI okX5 (ci := 5) rfl 16 mW_o 11 (by decide) q1489 rfl (v := .ref (ad 11)) rfl dX5_leastFrom_70 ?_
                refine lv_iload hxR hbR dX5_leastFrom_73 (lv_at hl 5 rfl) ?_
                refine r_iald hxR hbR hK hI 26 (n := 8) (J := i) (f := ia 11) (v := (ia 11) i) (mW_g11 (up_n (by decide) rfl)) (by omega) (by decide) rfl dX5_leastFrom_75 ?_
                refine lv_isub hxR hbR dX5_leastFrom_76 ?_
                refine lv_imul hxR hbR dX5_leastFrom_77 ?_
                refine lv_goto (tgt := 82) hxR hbR dX5_leastFrom_78 (by decide) ?_
                refine lv_iadd hxR hbR dX5_leastFrom_82 ?_
                refine lv_istore (lv' := [(4, .int (a + ((10 * ((ia 12) i)) * (24 - ((ia 11) i))))), (0, .ref (ad 45)), (1, .int (nI k)), (2, .int (nI lf)), (3, .int (nI (k * 128 + lf))), (5, .int (nI i))]) hxR hbR dX5_leastFrom_83 hl (by decide) rfl (fun ls hl => ?_)
                refine lv_iinc (v := nI (i + 1)) (lv' := [(5, .int (nI (i + 1))), (4, .int (a + ((10 * ((ia 12) i)) * (24 - ((ia 11) i))))), (0, .ref (ad 45)), (1, .int (nI k)), (2, .int (nI lf)), (3, .int (nI (k * 128 + lf)))]) hxR hbR dX5_leastFrom_85 hl (k := 5) rfl (show nI i + 1 = nI (i + 1) from nI_add _ 1) (by decide) rfl (fun ls hl => ?_)
                refine lv_goto (tgt := 37) hxR hbR dX5_leastFrom_88 (by decide) ?_
                exact ih_37 (i + 1) (a + ((10 * ((ia 12) i)) * (24 - ((ia 11) i)))) (by first | omega | with_reducible assumption) (by rw [ha]; first | exact (sumS_y (f := fun p => 10 * ia 12 p * (24 - ia 11 p)) c_51).symm | exact (sumS_n c_51).symm) (by omega) _ _ hI _ (lv_sub hl [2, 3, 4, 5, 1, 0] rfl)
              · skip
                have c_51 : lf.testBit i = false := c_51
                refine lv_if_eq (tgt := 81) hxR hbR dX5_leastFrom_54 (by decide) (fun _ => ?_) (fun c => absurd c (by decide))
                refine lv_iconst (v := 0) hxR hbR dX5_leastFrom_81 (by decide) ?_
                refine lv_iadd hxR hbR dX5_leastFrom_82 ?_
                refine lv_istore (lv' := [(4, .int (a + 0)), (0, .ref (ad 45)), (1, .int (nI k)), (2, .int (nI lf)), (3, .int (nI (k * 128 + lf))), (5, .int (nI i))]) hxR hbR dX5_leastFrom_83 hl (by decide) rfl (fun ls hl => ?_)
                refine lv_iinc (v := nI (i + 1)) (lv' := [(5, .int (nI (i + 1))), (4, .int (a + 0)), (0, .ref (ad 45)), (1, .int (nI k)), (2, .int (nI lf)), (3, .int (nI (k * 128 + lf)))]) hxR hbR dX5_leastFrom_85 hl (k := 5) rfl (show nI i + 1 = nI (i + 1) from nI_add _ 1) (by decide) rfl (fun ls hl => ?_)
                refine lv_goto (tgt := 37) hxR hbR dX5_leastFrom_88 (by decide) ?_
                exact ih_37 (i + 1) (a + 0) (by first | omega | with_reducible assumption) (by rw [ha]; first | exact (sumS_y (f := fun p => 10 * ia 12 p * (24 - ia 11 p)) c_51).symm | exact (sumS_n c_51).symm) (by omega) _ _ hI _ (lv_sub hl [2, 3, 4, 5, 1, 0] rfl)
        exact lp_37 _ 0 0 (by first | omega | with_reducible assumption) rfl (Nat.lt_succ_self _) _ _ hI _ (lv_sub hl [3, 4, 5, 2, 1, 0] rfl)
    · skip
      refine lv_aload_n hxR hbR dX5_leastFrom_16 rfl (lv_at hl 1 rfl) ?_
      refine r_get hxR hbR hts hown hK hI okX5 (ci := 5) rfl 16 mW_o 36 (by decide) q1514 rfl (v := .ref (ad 36)) rfl dX5_leastFrom_17 ?_
      refine lv_iload_n hxR hbR dX5_leastFrom_20 rfl (lv_at hl 0 rfl) ?_
      refine r_iald hxR hbR hK hI 34 (n := 1024) (J := k * 128 + lf) (f := ia 36) (v := (ia 36) (k * 128 + lf)) (mW_g36 rfl) (by omega) (by decide) rfl dX5_leastFrom_21 ?_
      have hI := wI_w (ws' := mW E ad kp tr iv (va_up ia 36 (ia 36)) K R mv) (by rw [va_up_id (f := ia) (k := 36) rfl]) hI
      exact hret (ia 36) ((ia 36) (k * 128 + lf)) _ _ _ _ _ _ dX5_leastFrom_22 hI (by show ((ia 36) (k * 128 + lf)) = lsV L com (ia 12) (ia 11) n k lf ∧ lsMm L com (ia 12) (ia 11) n (ia 36); exact ⟨hm k lf hk hl7 c_13, hm⟩) (Nat.le_of_ble_eq_true rfl) (Nat.le_of_ble_eq_true rfl) rfl
