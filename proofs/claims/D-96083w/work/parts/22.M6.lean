theorem c5_isGroupNow (l : Launch) (E : En) (ad : Nat → Nat) (kp tr : Option Nat) (iv : Nat → Int32) (ia K : Nat → Nat → Int32) (R : Nat → Nat → Int64) (mv : Nat → Int64) (n st S : Nat) (hn : iv 10 = nI n) (hst : iv 14 = nI st) (hn8 : n ≤ 8) (hs4 : st ≤ 4) (hS : S < 2 ^ 31) : CtI l E yX5_isGroupNow cX5_isGroupNow 4 .boolean 1 0 0 [.ref (ad 45), .int (nI S)] (mW E ad kp tr iv ia K R mv) (fun (r : Int32) (u : Unit) => r = b2i (isGrp K n st S)) (fun (u : Unit) => mW E ad kp tr iv ia K R mv) := by
  refine CtI.of (by decide +kernel) (Nat.le_of_ble_eq_true rfl) ?_
  intro pR eR sR mR aR bR tR cR AR ls QR hxR hbR hmlR hts hown hlk hnm hA hK hI hl hret
  have hl : lv_has ls 4 [(0, .ref (ad 45)), (1, .int (nI S))] := hl
  refine lv_iload_n hxR hbR dX5_isGroupNow_0 rfl (lv_at hl 1 rfl) ?_
  refine kSI (n := 1) (As := [.int (nI S)]) (rest := []) (fun w => w ++ (mW E ad kp tr iv ia K R mv)) hxR hbR hmlR hts hown hK hA hl.1 (isCtx.suf _) hI (c5_bits l E  S (by first | omega | with_reducible assumption)) (lw_S q1683 q1684 q86 q1685) (by decide +kernel) rfl (Nat.le_of_ble_eq_true rfl) (Nat.le_of_ble_eq_true rfl) ⟨Nat.le_of_ble_eq_true rfl, Nat.le_of_ble_eq_true rfl⟩ (Nat.le_of_ble_eq_true rfl) dX5_isGroupNow_1 (fun r_1 u H locs hp hI hz => ?_)
  have hI : wI E AR sR H locs (mW E ad kp tr iv ia K R mv) := hI
  have hp : r_1 = nI (bitsN S 8) := hp
  have hr_1 := hp
  subst hr_1
  have hbl := bitsN_le S 8
  refine lv_aload_n hxR hbR dX5_isGroupNow_4 rfl (lv_at hl 0 rfl) ?_
  refine r_get hxR hbR hts hown hK hI okX5 (ci := 5) rfl 16 mW_o 14 (by decide) q1492 rfl (v := .int (nI st)) (al hst) dX5_isGroupNow_5 ?_
  refine lv_icmp_eq (tgt := 13) hxR hbR dX5_isGroupNow_8 (by decide) (fun c_8 => ?_) (fun c_8 => ?_)
  · skip
    have c_8 : (bitsN S 8) = st := (n_eq (a := (bitsN S 8)) (b := st) (by omega) (by omega)).mp c_8
    refine lv_iconst (v := 0) hxR hbR dX5_isGroupNow_13 (by decide) ?_
    refine lv_istore_n (lv' := [(2, .int 0), (0, .ref (ad 45)), (1, .int (nI S))]) hxR hbR dX5_isGroupNow_14 rfl hl (by decide) rfl (fun ls hl => ?_)
    have lp_15 : ∀ (fu : Nat) (i : Nat), (i ≤ n) → (∀ a, a < i → ∀ b, b < a → S.testBit a = true → S.testBit b = true → K a b = -1) → n - i < fu → ∀ (H : Heap) (locs : List Loc), wI E AR sR H locs (mW E ad kp tr iv ia K R mv) → ∀ ls : Array Slot, lv_has ls 4 [(0, .ref (ad 45)), (1, .int (nI S)), (2, .int (nI i))] → W pR l eR (rmF 1 0 0) sR mR aR bR tR cR H locs 0 0 QR (F0 mR 15 ls []) := by
      intro fu
      induction fu with
      | zero =>
        intro i hi hp hfu
        exact absurd hfu (Nat.not_lt_zero _)
      | succ fu ih_15 =>
        intro i hi hp hfu H locs hI ls hl
        refine lv_iload_n hxR hbR dX5_isGroupNow_15 rfl (lv_at hl 2 rfl) ?_
        refine lv_aload_n hxR hbR dX5_isGroupNow_16 rfl (lv_at hl 0 rfl) ?_
        refine r_get hxR hbR hts hown hK hI okX5 (ci := 5) rfl 16 mW_o 10 (by decide) q1488 rfl (v := .int (nI n)) (al hn) dX5_isGroupNow_17 ?_
        refine lv_icmp_ge (tgt := 72) hxR hbR dX5_isGroupNow_20 (by decide) (fun c_20 => ?_) (fun c_20 => ?_)
        · skip
          have c_20 : n ≤ i := (n_le (a := n) (b := i) (by omega) (by omega)).mp c_20
          refine lv_iconst (v := 1) hxR hbR dX5_isGroupNow_72 (by decide) ?_
          exact hret () 1 _ _ _ _ _ _ dX5_isGroupNow_73 hI (by show 1 = b2i (isGrp K n st S); rw [isGrp, decide_eq_true ⟨c_8, fun a ha => hp a (by omega)⟩]; rfl) (Nat.le_of_ble_eq_true rfl) (Nat.le_of_ble_eq_true rfl) rfl
        · skip
          have c_20 : i < n := Nat.lt_of_not_le (fun zz => c_20 ((n_le (a := n) (b := i) (by omega) (by omega)).mpr zz))
          refine lv_iconst (v := 0) hxR hbR dX5_isGroupNow_23 (by decide) ?_
          refine lv_istore_n (lv' := [(3, .int 0), (0, .ref (ad 45)), (1, .int (nI S)), (2, .int (nI i))]) hxR hbR dX5_isGroupNow_24 rfl hl (by decide) rfl (fun ls hl => ?_)
          have lp_25 : ∀ (fu : Nat) (j : Nat), (j ≤ i) → (∀ b, b < j → S.testBit i = true → S.testBit b = true → K i b = -1) → i - j < fu → ∀ (H : Heap) (locs : List Loc), wI E AR sR H locs (mW E ad kp tr iv ia K R mv) → ∀ ls : Array Slot, lv_has ls 4 [(0, .ref (ad 45)), (1, .int (nI S)), (2, .int (nI i)), (3, .int (nI j))] → W pR l eR (rmF 1 0 0) sR mR aR bR tR cR H locs 0 0 QR (F0 mR 25 ls []) := by
            intro fu
            induction fu with
            | zero =>
              intro j hj hq hfu
              exact absurd hfu (Nat.not_lt_zero _)
            | succ fu ih_25 =>
              intro j hj hq hfu H locs hI ls hl
              refine lv_iload_n hxR hbR dX5_isGroupNow_25 rfl (lv_at hl 3 rfl) ?_
              refine lv_iload_n hxR hbR dX5_isGroupNow_26 rfl (lv_at hl 2 rfl) ?_
              refine lv_icmp_ge (tgt := 66) hxR hbR dX5_isGroupNow_27 (by decide) (fun c_27 => ?_) (fun c_27 => ?_)
              · skip
                have c_27 : i ≤ j := (n_le (a := i) (b := j) (by omega) (by omega)).mp c_27
                refine lv_iinc (v := nI (i + 1)) (lv' := [(2, .int (nI (i + 1))), (0, .ref (ad 45)), (1, .int (nI S)), (3, .int (nI j))]) hxR hbR dX5_isGroupNow_66 hl (k := 2) rfl (show nI i + 1 = nI (i + 1) from nI_add _ 1) (by decide) rfl (fun ls hl => ?_)
                refine lv_goto (tgt := 15) hxR hbR dX5_isGroupNow_69 (by decide) ?_
                exact ih_15 (i + 1) (by first | omega | with_reducible assumption) (lt_s hp (fun b hb => hq b (by omega))) (by omega) _ _ hI _ (lv_sub hl [1, 2, 0] rfl)
              · skip
                have c_27 : j < i := Nat.lt_of_not_le (fun zz => c_27 ((n_le (a := i) (b := j) (by omega) (by omega)).mpr zz))
                refine lv_iload_n hxR hbR dX5_isGroupNow_30 rfl (lv_at hl 1 rfl) ?_
                refine lv_iload_n hxR hbR dX5_isGroupNow_31 rfl (lv_at hl 2 rfl) ?_
                refine kSI (n := 2) (As := [.int (nI S), .int (nI i)]) (rest := []) (fun w => w ++ (mW E ad kp tr iv ia K R mv)) hxR hbR hmlR hts hown hK hA hl.1 (isCtx.suf _) hI (c5_has l E  S i (by first | omega | with_reducible assumption) (by first | omega | with_reducible assumption)) (lw_S q1680 q1681 q86 q1682) (by decide +kernel) rfl (Nat.le_of_ble_eq_true rfl) (Nat.le_of_ble_eq_true rfl) ⟨Nat.le_of_ble_eq_true rfl, Nat.le_of_ble_eq_true rfl⟩ (Nat.le_of_ble_eq_true rfl) dX5_isGroupNow_32 (fun r_32 u H locs hp hI hz => ?_)
                have hI : wI E AR sR H locs (mW E ad kp tr iv ia K R mv) := hI
                have hp : r_32 = b2i (S.testBit i) := hp
                have hr_32 := hp
                rcases b2i_cases hr_32 with ⟨c_32, rfl⟩ | ⟨c_32, rfl⟩
                · skip
                  have c_32 : S.testBit i = true := c_32
                  refine lv_if_eq (tgt := 60) hxR hbR dX5_isGroupNow_35 (by decide) (fun c => absurd c (by decide)) (fun _ => ?_)
                  refine lv_iload_n hxR hbR dX5_isGroupNow_38 rfl (lv_at hl 1 rfl) ?_
                  refine lv_iload_n hxR hbR dX5_isGroupNow_39 rfl (lv_at hl 3 rfl) ?_
                  refine kSI (n := 2) (As := [.int (nI S), .int (nI j)]) (rest := []) (fun w => w ++ (mW E ad kp tr iv ia K R mv)) hxR hbR hmlR hts hown hK hA hl.1 (isCtx.suf _) hI (c5_has l E  S j (by first | omega | with_reducible assumption) (by first | omega | with_reducible assumption)) (lw_S q1680 q1681 q86 q1682) (by decide +kernel) rfl (Nat.le_of_ble_eq_true rfl) (Nat.le_of_ble_eq_true rfl) ⟨Nat.le_of_ble_eq_true rfl, Nat.le_of_ble_eq_true rfl⟩ (Nat.le_of_ble_eq_true rfl) dX5_isGroupNow_40 (fun r_40 u H locs hp hI hz => ?_)
                  have hI : wI E AR sR H locs (mW E ad kp tr iv ia K R mv) := hI
                  have hp : r_40 = b2i (S.testBit j) := hp
                  have hr_40 := hp
                  rcases b2i_cases hr_40 with ⟨c_40, rfl⟩ | ⟨c_40, rfl⟩
                  · skip
                    have c_40 : S.testBit j = true := c_40
                    refine lv_if_eq (tgt := 60) hxR hbR dX5_isGroupNow_43 (by decide) (fun c => absurd c (by decide)) (fun _ => ?_)
                    refine lv_aload_n hxR hbR dX5_isGroupNow_46 rfl (lv_at hl 0 rfl) ?_
                    refine r_get hxR hbR hts hown hK hI okX5 (ci := 5) rfl 16 mW_o 13 (by decide) q1491 rfl (v := .ref (ad 13)) rfl dX5_isGroupNow_47 ?_
                    refine lv_iload_n hxR hbR dX5_isGroupNow_50 rfl (lv_at hl 2 rfl) ?_
                    refine r_aald hxR hbR hK hI 28 2 (r := ad (50 + i)) rfl rfl (n := 8) (J := i) rfl (by omega) (by decide) rfl dX5_isGroupNow_51 ?_
                    refine lv_iload_n hxR hbR dX5_isGroupNow_52 rfl (lv_at hl 3 rfl) ?_
                    refine r_iald hxR hbR hK hI i (n := 8) (J := j) (f := K i) (v := (K i) j) (mW_K i (by omega)) (by omega) (by decide) rfl dX5_isGroupNow_53 ?_
                    refine lv_iconst (v := (-1)) hxR hbR dX5_isGroupNow_54 (by decide) ?_
                    refine lv_icmp_eq (tgt := 60) hxR hbR dX5_isGroupNow_55 (by decide) (fun c_55 => ?_) (fun c_55 => ?_)
                    · skip
                      refine lv_iinc (v := nI (j + 1)) (lv' := [(3, .int (nI (j + 1))), (0, .ref (ad 45)), (1, .int (nI S)), (2, .int (nI i))]) hxR hbR dX5_isGroupNow_60 hl (k := 3) rfl (show nI j + 1 = nI (j + 1) from nI_add _ 1) (by decide) rfl (fun ls hl => ?_)
                      refine lv_goto (tgt := 25) hxR hbR dX5_isGroupNow_63 (by decide) ?_
                      exact ih_25 (j + 1) (by first | omega | with_reducible assumption) (lt_s hq (fun h1 h2 => by first | exact c_55 | exact absurd (h1.symm.trans c_32) (by decide) | exact absurd (h2.symm.trans c_40) (by decide))) (by omega) _ _ hI _ (lv_sub hl [1, 2, 3, 0] rfl)
                    · skip
                      refine lv_iconst (v := 0) hxR hbR dX5_isGroupNow_58 (by decide) ?_
                      exact hret () 0 _ _ _ _ _ _ dX5_isGroupNow_59 hI (by show 0 = b2i (isGrp K n st S); rw [isGrp, decide_eq_false (fun h => c_55 (h.2 i c_20 j c_27 c_32 c_40))]; rfl) (Nat.le_of_ble_eq_true rfl) (Nat.le_of_ble_eq_true rfl) rfl
                  · skip
                    have c_40 : S.testBit j = false := c_40
                    refine lv_if_eq (tgt := 60) hxR hbR dX5_isGroupNow_43 (by decide) (fun _ => ?_) (fun c => absurd c (by decide))
                    refine lv_iinc (v := nI (j + 1)) (lv' := [(3, .int (nI (j + 1))), (0, .ref (ad 45)), (1, .int (nI S)), (2, .int (nI i))]) hxR hbR dX5_isGroupNow_60 hl (k := 3) rfl (show nI j + 1 = nI (j + 1) from nI_add _ 1) (by decide) rfl (fun ls hl => ?_)
                    refine lv_goto (tgt := 25) hxR hbR dX5_isGroupNow_63 (by decide) ?_
                    exact ih_25 (j + 1) (by first | omega | with_reducible assumption) (lt_s hq (fun h1 h2 => by first | exact c_55 | exact absurd (h1.symm.trans c_32) (by decide) | exact absurd (h2.symm.trans c_40) (by decide))) (by omega) _ _ hI _ (lv_sub hl [1, 2, 3, 0] rfl)
                · skip
                  have c_32 : S.testBit i = false := c_32
                  refine lv_if_eq (tgt := 60) hxR hbR dX5_isGroupNow_35 (by decide) (fun _ => ?_) (fun c => absurd c (by decide))
                  refine lv_iinc (v := nI (j + 1)) (lv' := [(3, .int (nI (j + 1))), (0, .ref (ad 45)), (1, .int (nI S)), (2, .int (nI i))]) hxR hbR dX5_isGroupNow_60 hl (k := 3) rfl (show nI j + 1 = nI (j + 1) from nI_add _ 1) (by decide) rfl (fun ls hl => ?_)
                  refine lv_goto (tgt := 25) hxR hbR dX5_isGroupNow_63 (by decide) ?_
                  exact ih_25 (j + 1) (by first | omega | with_reducible assumption) (lt_s hq (fun h1 h2 => by first | exact c_55 | exact absurd (h1.symm.trans c_32) (by decide) | exact absurd (h2.symm.trans c_40) (by decide))) (by omega) _ _ hI _ (lv_sub hl [1, 2, 3, 0] rfl)
          exact lp_25 _ 0 (by first | omega | with_reducible assumption) (fun a h => absurd h (Nat.not_lt_zero _)) (Nat.lt_succ_self _) _ _ hI _ (lv_sub hl [1, 2, 3, 0] rfl)
    exact lp_15 _ 0 (by first | omega | with_reducible assumption) (fun a h => absurd h (Nat.not_lt_zero _)) (Nat.lt_succ_self _) _ _ hI _ (lv_sub hl [1, 2, 0] rfl)
  · skip
    have c_8 : ¬ (bitsN S 8) = st := fun zz => c_8 ((n_eq (a := (bitsN S 8)) (b := st) (by omega) (by omega)).mpr zz)
    refine lv_iconst (v := 0) hxR hbR dX5_isGroupNow_11 (by decide) ?_
    exact hret () 0 _ _ _ _ _ _ dX5_isGroupNow_12 hI (by show 0 = b2i (isGrp K n st S); rw [isGrp, decide_eq_false (fun h => c_8 h.1)]; rfl) (Nat.le_of_ble_eq_true rfl) (Nat.le_of_ble_eq_true rfl) rfl

theorem c5_isUnder (l : Launch) (E : En)  (mine k : Nat) (hm : mine < 100) (hk : k < 100) : CtI l E yX5_isUnder cX5_isUnder 2 .boolean 0 0 0 [.int (nI mine), .int (nI k)] (([] : va_W)) (fun (r : Int32) (u : Unit) => r = b2i (isUndV mine k)) (fun (u : Unit) => ([] : va_W)) := by
  refine CtI.of (by decide +kernel) (Nat.le_of_ble_eq_true rfl) ?_
  intro pR eR sR mR aR bR tR cR AR ls QR hxR hbR hmlR hts hown hlk hnm hA hK hI hl hret
  have hl : lv_has ls 2 [(0, .int (nI mine)), (1, .int (nI k))] := hl
  refine lv_iload_n hxR hbR dX5_isUnder_0 rfl (lv_at hl 1 rfl) ?_
  refine lv_if_eq (tgt := 9) hxR hbR dX5_isUnder_1 (by decide) (fun c_1 => ?_) (fun c_1 => ?_)
  · skip
    have c_1 : k = 0 := (n_eq (a := k) (b := 0) (by omega) (by omega)).mp c_1
    refine lv_iconst (v := 1) hxR hbR dX5_isUnder_9 (by decide) ?_
    exact hret () 1 _ _ _ _ _ _ dX5_isUnder_10 hI (by show 1 = b2i (isUndV mine k); rw [isUndV]; first | rw [decide_eq_true (by omega)]; rfl | rw [decide_eq_false (by omega)]; rfl) (Nat.le_of_ble_eq_true rfl) (Nat.le_of_ble_eq_true rfl) rfl
  · skip
    have c_1 : ¬ k = 0 := fun zz => c_1 ((n_eq (a := k) (b := 0) (by omega) (by omega)).mpr zz)
    refine lv_iload_n hxR hbR dX5_isUnder_4 rfl (lv_at hl 0 rfl) ?_
    refine lv_iload_n hxR hbR dX5_isUnder_5 rfl (lv_at hl 1 rfl) ?_
    refine lv_icmp_ne (tgt := 11) hxR hbR dX5_isUnder_6 (by decide) (fun c_6 => ?_) (fun c_6 => ?_)
    · skip
      have c_6 : ¬ mine = k := fun zz => c_6 ((n_eq (a := mine) (b := k) (by omega) (by omega)).mpr zz)
      refine lv_iload_n hxR hbR dX5_isUnder_11 rfl (lv_at hl 1 rfl) ?_
      refine lv_iconst (v := 1) hxR hbR dX5_isUnder_12 (by decide) ?_
      refine lv_icmp_ne (tgt := 29) hxR hbR dX5_isUnder_13 (by decide) (fun c_13 => ?_) (fun c_13 => ?_)
      · skip
        have c_13 : ¬ k = 1 := fun zz => c_13 ((n_eq (a := k) (b := 1) (by omega) (by omega)).mpr zz)
        refine lv_iload_n hxR hbR dX5_isUnder_29 rfl (lv_at hl 1 rfl) ?_
        refine lv_iconst (v := 2) hxR hbR dX5_isUnder_30 (by decide) ?_
        refine lv_icmp_ne (tgt := 43) hxR hbR dX5_isUnder_31 (by decide) (fun c_31 => ?_) (fun c_31 => ?_)
        · skip
          have c_31 : ¬ k = 2 := fun zz => c_31 ((n_eq (a := k) (b := 2) (by omega) (by omega)).mpr zz)
          refine lv_iconst (v := 0) hxR hbR dX5_isUnder_43 (by decide) ?_
          exact hret () 0 _ _ _ _ _ _ dX5_isUnder_44 hI (by show 0 = b2i (isUndV mine k); rw [isUndV]; first | rw [decide_eq_true (by omega)]; rfl | rw [decide_eq_false (by omega)]; rfl) (Nat.le_of_ble_eq_true rfl) (Nat.le_of_ble_eq_true rfl) rfl
        · skip
          have c_31 : k = 2 := (n_eq (a := k) (b := 2) (by omega) (by omega)).mp c_31
          refine lv_iload_n hxR hbR dX5_isUnder_34 rfl (lv_at hl 0 rfl) ?_
          refine lv_iconst (v := 4) hxR hbR dX5_isUnder_35 (by decide) ?_
          refine lv_icmp_lt (tgt := 43) hxR hbR dX5_isUnder_36 (by decide) (fun c_36 => ?_) (fun c_36 => ?_)
          · skip
            have c_36 : mine < 4 := (n_lt (a := mine) (b := 4) (by omega) (by omega)).mp c_36
            refine lv_iconst (v := 0) hxR hbR dX5_isUnder_43 (by decide) ?_
            exact hret () 0 _ _ _ _ _ _ dX5_isUnder_44 hI (by show 0 = b2i (isUndV mine k); rw [isUndV]; first | rw [decide_eq_true (by omega)]; rfl | rw [decide_eq_false (by omega)]; rfl) (Nat.le_of_ble_eq_true rfl) (Nat.le_of_ble_eq_true rfl) rfl
          · skip
            have c_36 : 4 ≤ mine := Nat.le_of_not_lt (fun zz => c_36 ((n_lt (a := mine) (b := 4) (by omega) (by omega)).mpr zz))
            refine lv_iconst (v := 1) hxR hbR dX5_isUnder_39 (by decide) ?_
            refine lv_goto (tgt := 44) hxR hbR dX5_isUnder_40 (by decide) ?_
            exact hret () 1 _ _ _ _ _ _ dX5_isUnder_44 hI (by show 1 = b2i (isUndV mine k); rw [isUndV]; first | rw [decide_eq_true (by omega)]; rfl | rw [decide_eq_false (by omega)]; rfl) (Nat.le_of_ble_eq_true rfl) (Nat.le_of_ble_eq_true rfl) rfl
      · skip
        have c_13 : k = 1 := (n_eq (a := k) (b := 1) (by omega) (by omega)).mp c_13
        refine lv_iload_n hxR hbR dX5_isUnder_16 rfl (lv_at hl 0 rfl) ?_
        refine lv_iconst (v := 3) hxR hbR dX5_isUnder_17 (by decide) ?_
        refine lv_icmp_ne (tgt := 25) hxR hbR dX5_isUnder_18 (by decide) (fun c_18 => ?_) (fun c_18 => ?_)
        · skip
          have c_18 : ¬ mine = 3 := fun zz => c_18 ((n_eq (a := mine) (b := 3) (by omega) (by omega)).mpr zz)
          refine lv_iconst (v := 0) hxR hbR dX5_isUnder_25 (by decide) ?_
          refine lv_goto (tgt := 44) hxR hbR dX5_isUnder_26 (by decide) ?_
          exact hret () 0 _ _ _ _ _ _ dX5_isUnder_44 hI (by show 0 = b2i (isUndV mine k); rw [isUndV]; first | rw [decide_eq_true (by omega)]; rfl | rw [decide_eq_false (by omega)]; rfl) (Nat.le_of_ble_eq_true rfl) (Nat.le_of_ble_eq_true rfl) rfl
        · skip
          have c_18 : mine = 3 := (n_eq (a := mine) (b := 3) (by omega) (by omega)).mp c_18
          refine lv_iconst (v := 1) hxR hbR dX5_isUnder_21 (by decide) ?_
          refine lv_goto (tgt := 44) hxR hbR dX5_isUnder_22 (by decide) ?_
          exact hret () 1 _ _ _ _ _ _ dX5_isUnder_44 hI (by show 1 = b2i (isUndV mine k); rw [isUndV]; first | rw [decide_eq_true (by omega)]; rfl | rw [decide_eq_false (by omega)]; rfl) (Nat.le_of_ble_eq_true rfl) (Nat.le_of_ble_eq_true rfl) rfl
    · skip
      have c_6 : mine = k := (n_eq (a := mine) (b := k) (by omega) (by omega)).mp c_6
      refine lv_iconst (v := 1) hxR hbR dX5_isUnder_9 (by decide) ?_
      exact hret () 1 _ _ _ _ _ _ dX5_isUnder_10 hI (by show 1 = b2i (isUndV mine k); rw [isUndV]; first | rw [decide_eq_true (by omega)]; rfl | rw [decide_eq_false (by omega)]; rfl) (Nat.le_of_ble_eq_true rfl) (Nat.le_of_ble_eq_true rfl) rfl

theorem c5_isLetter (l : Launch) (E : En)  (x : Int32)  : CtI l E yX5_isLetter cX5_isLetter 1 .boolean 0 0 0 [.int x] (([] : va_W)) (fun (r : Int32) (u : Unit) => r = b2i (isLet x)) (fun (u : Unit) => ([] : va_W)) := by
  refine CtI.of (by decide +kernel) (Nat.le_of_ble_eq_true rfl) ?_
  intro pR eR sR mR aR bR tR cR AR ls QR hxR hbR hmlR hts hown hlk hnm hA hK hI hl hret
  have hl : lv_has ls 1 [(0, .int x)] := hl
  refine lv_iload_n hxR hbR dX5_isLetter_0 rfl (lv_at hl 0 rfl) ?_
  refine lv_bipush (v := 97) hxR hbR dX5_isLetter_1 (by decide) ?_
  refine lv_icmp_lt (tgt := 16) hxR hbR dX5_isLetter_3 (by decide) (fun c_3 => ?_) (fun c_3 => ?_)
  · skip
    refine lv_iconst (v := 0) hxR hbR dX5_isLetter_16 (by decide) ?_
    exact hret () 0 _ _ _ _ _ _ dX5_isLetter_17 hI (by show 0 = b2i (isLet x); rw [isLet]; first | rw [decide_eq_true ⟨Int32.not_lt.mp c_3, Int32.not_lt.mp c_9⟩]; rfl | rw [decide_eq_false (fun h => Int32.not_lt.mpr h.1 c_3)]; rfl | rw [decide_eq_false (fun h => Int32.not_lt.mpr h.2 c_9)]; rfl) (Nat.le_of_ble_eq_true rfl) (Nat.le_of_ble_eq_true rfl) rfl
  · skip
    refine lv_iload_n hxR hbR dX5_isLetter_6 rfl (lv_at hl 0 rfl) ?_
    refine lv_bipush (v := 122) hxR hbR dX5_isLetter_7 (by decide) ?_
    refine lv_icmp_gt (tgt := 16) hxR hbR dX5_isLetter_9 (by decide) (fun c_9 => ?_) (fun c_9 => ?_)
    · skip
      refine lv_iconst (v := 0) hxR hbR dX5_isLetter_16 (by decide) ?_
      exact hret () 0 _ _ _ _ _ _ dX5_isLetter_17 hI (by show 0 = b2i (isLet x); rw [isLet]; first | rw [decide_eq_true ⟨Int32.not_lt.mp c_3, Int32.not_lt.mp c_9⟩]; rfl | rw [decide_eq_false (fun h => Int32.not_lt.mpr h.1 c_3)]; rfl | rw [decide_eq_false (fun h => Int32.not_lt.mpr h.2 c_9)]; rfl) (Nat.le_of_ble_eq_true rfl) (Nat.le_of_ble_eq_true rfl) rfl
    · skip
      refine lv_iconst (v := 1) hxR hbR dX5_isLetter_12 (by decide) ?_
      refine lv_goto (tgt := 17) hxR hbR dX5_isLetter_13 (by decide) ?_
      exact hret () 1 _ _ _ _ _ _ dX5_isLetter_17 hI (by show 1 = b2i (isLet x); rw [isLet]; first | rw [decide_eq_true ⟨Int32.not_lt.mp c_3, Int32.not_lt.mp c_9⟩]; rfl | rw [decide_eq_false (fun h => Int32.not_lt.mpr h.1 c_3)]; rfl | rw [decide_eq_false (fun h => Int32.not_lt.mpr h.2 c_9)]; rfl) (Nat.le_of_ble_eq_true rfl) (Nat.le_of_ble_eq_true rfl) rfl

theorem c5_isDigit (l : Launch) (E : En)  (x : Int32)  : CtI l E yX5_isDigit cX5_isDigit 1 .boolean 0 0 0 [.int x] (([] : va_W)) (fun (r : Int32) (u : Unit) => r = b2i (isDig x)) (fun (u : Unit) => ([] : va_W)) := by
  refine CtI.of (by decide +kernel) (Nat.le_of_ble_eq_true rfl) ?_
  intro pR eR sR mR aR bR tR cR AR ls QR hxR hbR hmlR hts hown hlk hnm hA hK hI hl hret
  have hl : lv_has ls 1 [(0, .int x)] := hl
  refine lv_iload_n hxR hbR dX5_isDigit_0 rfl (lv_at hl 0 rfl) ?_
  refine lv_bipush (v := 48) hxR hbR dX5_isDigit_1 (by decide) ?_
  refine lv_icmp_lt (tgt := 16) hxR hbR dX5_isDigit_3 (by decide) (fun c_3 => ?_) (fun c_3 => ?_)
  · skip
    refine lv_iconst (v := 0) hxR hbR dX5_isDigit_16 (by decide) ?_
    exact hret () 0 _ _ _ _ _ _ dX5_isDigit_17 hI (by show 0 = b2i (isDig x); rw [isDig]; first | rw [decide_eq_true ⟨Int32.not_lt.mp c_3, Int32.not_lt.mp c_9⟩]; rfl | rw [decide_eq_false (fun h => Int32.not_lt.mpr h.1 c_3)]; rfl | rw [decide_eq_false (fun h => Int32.not_lt.mpr h.2 c_9)]; rfl) (Nat.le_of_ble_eq_true rfl) (Nat.le_of_ble_eq_true rfl) rfl
  · skip
    refine lv_iload_n hxR hbR dX5_isDigit_6 rfl (lv_at hl 0 rfl) ?_
    refine lv_bipush (v := 57) hxR hbR dX5_isDigit_7 (by decide) ?_
    refine lv_icmp_gt (tgt := 16) hxR hbR dX5_isDigit_9 (by decide) (fun c_9 => ?_) (fun c_9 => ?_)
    · skip
      refine lv_iconst (v := 0) hxR hbR dX5_isDigit_16 (by decide) ?_
      exact hret () 0 _ _ _ _ _ _ dX5_isDigit_17 hI (by show 0 = b2i (isDig x); rw [isDig]; first | rw [decide_eq_true ⟨Int32.not_lt.mp c_3, Int32.not_lt.mp c_9⟩]; rfl | rw [decide_eq_false (fun h => Int32.not_lt.mpr h.1 c_3)]; rfl | rw [decide_eq_false (fun h => Int32.not_lt.mpr h.2 c_9)]; rfl) (Nat.le_of_ble_eq_true rfl) (Nat.le_of_ble_eq_true rfl) rfl
    · skip
      refine lv_iconst (v := 1) hxR hbR dX5_isDigit_12 (by decide) ?_
      refine lv_goto (tgt := 17) hxR hbR dX5_isDigit_13 (by decide) ?_
      exact hret () 1 _ _ _ _ _ _ dX5_isDigit_17 hI (by show 1 = b2i (isDig x); rw [isDig]; first | rw [decide_eq_true ⟨Int32.not_lt.mp c_3, Int32.not_lt.mp c_9⟩]; rfl | rw [decide_eq_false (fun h => Int32.not_lt.mpr h.1 c_3)]; rfl | rw [decide_eq_false (fun h => Int32.not_lt.mpr h.2 c_9)]; rfl) (Nat.le_of_ble_eq_true rfl) (Nat.le_of_ble_eq_true rfl) rfl

theorem c5_noRow (l : Launch) (E : En) (ad : Nat → Nat) (kp tr : Option Nat) (iv : Nat → Int32) (ia K : Nat → Nat → Int32) (R : Nat → Nat → Int64) (mv : Nat → Int64) (x : Int32)  : CtI l E yX5_noRow cX5_noRow 2 .int 1 0 0 [.ref (ad 45), .int x] (mW E ad kp tr iv ia K R mv) (fun (r : Int32) (u : Unit) => r = noRowV (ia 0) x) (fun (u : Unit) => mW E ad kp tr iv (va_up ia 9 (bumpR (ia 9) (noRowV (ia 0) x))) K R mv) := by
  refine CtI.of (by decide +kernel) (Nat.le_of_ble_eq_true rfl) ?_
  intro pR eR sR mR aR bR tR cR AR ls QR hxR hbR hmlR hts hown hlk hnm hA hK hI hl hret
  have hl : lv_has ls 2 [(0, .ref (ad 45)), (1, .int x)] := hl
  refine lv_iload_n hxR hbR dX5_noRow_0 rfl (lv_at hl 1 rfl) ?_
  refine lv_i2l (v := x.toInt64) hxR hbR dX5_noRow_1 rfl ?_
  refine lv_lconst (v := 0) hxR hbR dX5_noRow_2 (by decide) ?_
  refine lv_ldc2 (v := 7) hxR hbR hown (hts _ q1618) dX5_noRow_3 ?_
  refine kSI (n := 3) (As := [.long x.toInt64, .long (0 : Int64), .long (7 : Int64)]) (rest := []) (fun w => w ++ (mW E ad kp tr iv ia K R mv)) hxR hbR hmlR hts hown hK hA hl.1 (isCtx.suf _) hI (c5_in l E  x.toInt64 (0 : Int64) (7 : Int64) ) (lw_S q1619 q1620 q86 q1621) (by decide +kernel) rfl (Nat.le_of_ble_eq_true rfl) (Nat.le_of_ble_eq_true rfl) ⟨Nat.le_of_ble_eq_true rfl, Nat.le_of_ble_eq_true rfl⟩ (Nat.le_of_ble_eq_true rfl) dX5_noRow_6 (fun r_6 u H locs hp hI hz => ?_)
  have hI : wI E AR sR H locs (mW E ad kp tr iv ia K R mv) := hI
  have hp : r_6 = b2i (inL x.toInt64 (0 : Int64) (7 : Int64)) := hp
  have hr_6 := hp
  rcases b2i_cases hr_6 with ⟨c_6, rfl⟩ | ⟨c_6, rfl⟩
  · skip
    have c_6 : (0 : Int64).toInt ≤ x.toInt64.toInt ∧ x.toInt64.toInt ≤ (7 : Int64).toInt := of_decide_eq_true c_6
    have c_6 : 0 ≤ x.toInt ∧ x.toInt ≤ 7 := by rw [Int32.toInt_toInt64] at c_6; exact c_6
    obtain ⟨P, hP, rfl⟩ := nat7 c_6
    refine lv_if_ne (tgt := 19) hxR hbR dX5_noRow_9 (by decide) (fun _ => ?_) (fun c => absurd c (by decide))
    refine lv_aload_n hxR hbR dX5_noRow_19 rfl (lv_at hl 0 rfl) ?_
    refine r_get hxR hbR hts hown hK hI okX5 (ci := 5) rfl 16 mW_o 0 (by decide) q1478 rfl (v := .ref (ad 0)) rfl dX5_noRow_20 ?_
    refine lv_iload_n hxR hbR dX5_noRow_23 rfl (lv_at hl 1 rfl) ?_
    refine r_iald hxR hbR hK hI 17 (n := 8) (J := P) (f := ia 0) (v := (ia 0) P) (mW_g0 rfl) (by omega) (by decide) rfl dX5_noRow_24 ?_
    refine lv_iconst (v := 2) hxR hbR dX5_noRow_25 (by decide) ?_
    refine lv_icmp_ne (tgt := 36) hxR hbR dX5_noRow_26 (by decide) (fun c_26 => ?_) (fun c_26 => ?_)
    · skip
      refine lv_aload_n hxR hbR dX5_noRow_36 rfl (lv_at hl 0 rfl) ?_
      refine r_get hxR hbR hts hown hK hI okX5 (ci := 5) rfl 16 mW_o 0 (by decide) q1478 rfl (v := .ref (ad 0)) rfl dX5_noRow_37 ?_
      refine lv_iload_n hxR hbR dX5_noRow_40 rfl (lv_at hl 1 rfl) ?_
      refine r_iald hxR hbR hK hI 17 (n := 8) (J := P) (f := ia 0) (v := (ia 0) P) (mW_g0 rfl) (by omega) (by decide) rfl dX5_noRow_41 ?_
      refine lv_if_ne (tgt := 54) hxR hbR dX5_noRow_42 (by decide) (fun c_42 => ?_) (fun c_42 => ?_)
      · skip
        have hv : noRowV (ia 0) (nI P) = 0 := by rw [noRowV_n hP, if_neg c_26, if_neg c_42]
        refine lv_iconst (v := 0) hxR hbR dX5_noRow_54 (by decide) ?_
        have hI : wI E AR sR H locs (mW E ad kp tr iv (va_up ia 9 (bumpR (ia 9) (noRowV (ia 0) (nI P)))) K R mv) := by rw [hv]; first | (rw [bump_4]; exact hI) | (rw [bump_0, va_up_id rfl]; exact hI)
        exact hret () 0 _ _ _ _ _ _ dX5_noRow_55 hI (by show 0 = noRowV (ia 0) (nI P); rw [hv]) (Nat.le_of_ble_eq_true rfl) (Nat.le_of_ble_eq_true rfl) rfl
      · skip
        refine lv_aload_n hxR hbR dX5_noRow_45 rfl (lv_at hl 0 rfl) ?_
        refine lv_bipush (v := (-4)) hxR hbR dX5_noRow_46 (by decide) ?_
        refine kVI (n := 1) (As := [.int (-4)]) (rest := []) (fun w => w) hxR hbR hmlR hts hown hK hA hl.1 isCtx.id hI (c5_refuse l E ad kp tr iv ia K R mv (-4) 4 (by decide) (by decide)) (lw_V q1624 q1626 qs34 q86 q1627) ⟨rfl, by decide +kernel⟩ 16 5 rfl rfl mW_o rfl (Nat.le_of_ble_eq_true rfl) (Nat.le_of_ble_eq_true rfl) ⟨Nat.le_of_ble_eq_true rfl, Nat.le_of_ble_eq_true rfl⟩ (Nat.le_of_ble_eq_true rfl) dX5_noRow_48 (fun r_48 u H locs hp hI hz => ?_)
        have hI : wI E AR sR H locs (mW E ad kp tr iv (va_up ia 9 (va_up (ia 9) 4 (ia 9 4 + 1))) K R mv) := hI
        have hp : r_48 = (-4) := hp
        have hr_48 := hp
        subst hr_48
        have hv : noRowV (ia 0) (nI P) = -4 := by rw [noRowV_n hP, if_neg c_26, if_pos c_42]
        refine lv_goto (tgt := 55) hxR hbR dX5_noRow_51 (by decide) ?_
        have hI : wI E AR sR H locs (mW E ad kp tr iv (va_up ia 9 (bumpR (ia 9) (noRowV (ia 0) (nI P)))) K R mv) := by rw [hv]; first | (rw [bump_4]; exact hI) | (rw [bump_0, va_up_id rfl]; exact hI)
        exact hret () (-4) _ _ _ _ _ _ dX5_noRow_55 hI (by show (-4) = noRowV (ia 0) (nI P); rw [hv]) (Nat.le_of_ble_eq_true rfl) (Nat.le_of_ble_eq_true rfl) rfl
    · skip
      refine lv_aload_n hxR hbR dX5_noRow_29 rfl (lv_at hl 0 rfl) ?_
      refine lv_bipush (v := (-3)) hxR hbR dX5_noRow_30 (by decide) ?_
      refine kVI (n := 1) (As := [.int (-3)]) (rest := []) (fun w => w) hxR hbR hmlR hts hown hK hA hl.1 isCtx.id hI (c5_refuse l E ad kp tr iv ia K R mv (-3) 3 (by decide) (by decide)) (lw_V q1624 q1626 qs34 q86 q1627) ⟨rfl, by decide +kernel⟩ 16 5 rfl rfl mW_o rfl (Nat.le_of_ble_eq_true rfl) (Nat.le_of_ble_eq_true rfl) ⟨Nat.le_of_ble_eq_true rfl, Nat.le_of_ble_eq_true rfl⟩ (Nat.le_of_ble_eq_true rfl) dX5_noRow_32 (fun r_32 u H locs hp hI hz => ?_)
      have hI : wI E AR sR H locs (mW E ad kp tr iv (va_up ia 9 (va_up (ia 9) 3 (ia 9 3 + 1))) K R mv) := hI
      have hp : r_32 = (-3) := hp
      have hr_32 := hp
      subst hr_32
      have hv : noRowV (ia 0) (nI P) = -3 := by rw [noRowV_n hP, if_pos c_26]
      have hI : wI E AR sR H locs (mW E ad kp tr iv (va_up ia 9 (bumpR (ia 9) (noRowV (ia 0) (nI P)))) K R mv) := by rw [hv, bump_3]; exact hI
      exact hret () (-3) _ _ _ _ _ _ dX5_noRow_35 hI (by show (-3) = noRowV (ia 0) (nI P); rw [hv]) (Nat.le_of_ble_eq_true rfl) (Nat.le_of_ble_eq_true rfl) rfl
  · skip
    have c_6 : ¬ ((0 : Int64).toInt ≤ x.toInt64.toInt ∧ x.toInt64.toInt ≤ (7 : Int64).toInt) := of_decide_eq_false c_6
    have c_6 : ¬ (0 ≤ x.toInt ∧ x.toInt ≤ 7) := by rw [Int32.toInt_toInt64] at c_6; exact c_6
    refine lv_if_ne (tgt := 19) hxR hbR dX5_noRow_9 (by decide) (fun c => absurd c (by decide)) (fun _ => ?_)
    refine lv_aload_n hxR hbR dX5_noRow_12 rfl (lv_at hl 0 rfl) ?_
    refine lv_bipush (v := (-2)) hxR hbR dX5_noRow_13 (by decide) ?_
    refine kVI (n := 1) (As := [.int (-2)]) (rest := []) (fun w => w) hxR hbR hmlR hts hown hK hA hl.1 isCtx.id hI (c5_refuse l E ad kp tr iv ia K R mv (-2) 2 (by decide) (by decide)) (lw_V q1624 q1626 qs34 q86 q1627) ⟨rfl, by decide +kernel⟩ 16 5 rfl rfl mW_o rfl (Nat.le_of_ble_eq_true rfl) (Nat.le_of_ble_eq_true rfl) ⟨Nat.le_of_ble_eq_true rfl, Nat.le_of_ble_eq_true rfl⟩ (Nat.le_of_ble_eq_true rfl) dX5_noRow_15 (fun r_15 u H locs hp hI hz => ?_)
    have hI : wI E AR sR H locs (mW E ad kp tr iv (va_up ia 9 (va_up (ia 9) 2 (ia 9 2 + 1))) K R mv) := hI
    have hp : r_15 = (-2) := hp
    have hr_15 := hp
    subst hr_15
    have hv : noRowV (ia 0) x = -2 := if_neg c_6
    have hI : wI E AR sR H locs (mW E ad kp tr iv (va_up ia 9 (bumpR (ia 9) (noRowV (ia 0) x))) K R mv) := by rw [hv, bump_2]; exact hI
    exact hret () (-2) _ _ _ _ _ _ dX5_noRow_18 hI (by show (-2) = noRowV (ia 0) x; rw [hv]) (Nat.le_of_ble_eq_true rfl) (Nat.le_of_ble_eq_true rfl) rfl

theorem c5_noMan (l : Launch) (E : En) (ad : Nat → Nat) (kp tr : Option Nat) (iv : Nat → Int32) (ia K : Nat → Nat → Int32) (R : Nat → Nat → Int64) (mv : Nat → Int64) (x : Int32)  : CtI l E yX5_noMan cX5_noMan 2 .int 1 0 0 [.ref (ad 45), .int x] (mW E ad kp tr iv ia K R mv) (fun (r : Int32) (u : Unit) => r = noManV (ia 0) x) (fun (u : Unit) => mW E ad kp tr iv (va_up ia 9 (bumpR (ia 9) (noManV (ia 0) x))) K R mv) := by
  refine CtI.of (by decide +kernel) (Nat.le_of_ble_eq_true rfl) ?_
  intro pR eR sR mR aR bR tR cR AR ls QR hxR hbR hmlR hts hown hlk hnm hA hK hI hl hret
  have hl : lv_has ls 2 [(0, .ref (ad 45)), (1, .int x)] := hl
  refine lv_iload_n hxR hbR dX5_noMan_0 rfl (lv_at hl 1 rfl) ?_
  refine lv_i2l (v := x.toInt64) hxR hbR dX5_noMan_1 rfl ?_
  refine lv_lconst (v := 0) hxR hbR dX5_noMan_2 (by decide) ?_
  refine lv_ldc2 (v := 7) hxR hbR hown (hts _ q1618) dX5_noMan_3 ?_
  refine kSI (n := 3) (As := [.long x.toInt64, .long (0 : Int64), .long (7 : Int64)]) (rest := []) (fun w => w ++ (mW E ad kp tr iv ia K R mv)) hxR hbR hmlR hts hown hK hA hl.1 (isCtx.suf _) hI (c5_in l E  x.toInt64 (0 : Int64) (7 : Int64) ) (lw_S q1619 q1620 q86 q1621) (by decide +kernel) rfl (Nat.le_of_ble_eq_true rfl) (Nat.le_of_ble_eq_true rfl) ⟨Nat.le_of_ble_eq_true rfl, Nat.le_of_ble_eq_true rfl⟩ (Nat.le_of_ble_eq_true rfl) dX5_noMan_6 (fun r_6 u H locs hp hI hz => ?_)
  have hI : wI E AR sR H locs (mW E ad kp tr iv ia K R mv) := hI
  have hp : r_6 = b2i (inL x.toInt64 (0 : Int64) (7 : Int64)) := hp
  have hr_6 := hp
  rcases b2i_cases hr_6 with ⟨c_6, rfl⟩ | ⟨c_6, rfl⟩
  · skip
    have c_6 : (0 : Int64).toInt ≤ x.toInt64.toInt ∧ x.toInt64.toInt ≤ (7 : Int64).toInt := of_decide_eq_true c_6
    have c_6 : 0 ≤ x.toInt ∧ x.toInt ≤ 7 := by rw [Int32.toInt_toInt64] at c_6; exact c_6
    obtain ⟨P, hP, rfl⟩ := nat7 c_6
    refine lv_if_ne (tgt := 19) hxR hbR dX5_noMan_9 (by decide) (fun _ => ?_) (fun c => absurd c (by decide))
    refine lv_aload_n hxR hbR dX5_noMan_19 rfl (lv_at hl 0 rfl) ?_
    refine r_get hxR hbR hts hown hK hI okX5 (ci := 5) rfl 16 mW_o 0 (by decide) q1478 rfl (v := .ref (ad 0)) rfl dX5_noMan_20 ?_
    refine lv_iload_n hxR hbR dX5_noMan_23 rfl (lv_at hl 1 rfl) ?_
    refine r_iald hxR hbR hK hI 17 (n := 8) (J := P) (f := ia 0) (v := (ia 0) P) (mW_g0 rfl) (by omega) (by decide) rfl dX5_noMan_24 ?_
    refine lv_iconst (v := 1) hxR hbR dX5_noMan_25 (by decide) ?_
    refine lv_icmp_ne (tgt := 36) hxR hbR dX5_noMan_26 (by decide) (fun c_26 => ?_) (fun c_26 => ?_)
    · skip
      refine lv_aload_n hxR hbR dX5_noMan_36 rfl (lv_at hl 0 rfl) ?_
      refine r_get hxR hbR hts hown hK hI okX5 (ci := 5) rfl 16 mW_o 0 (by decide) q1478 rfl (v := .ref (ad 0)) rfl dX5_noMan_37 ?_
      refine lv_iload_n hxR hbR dX5_noMan_40 rfl (lv_at hl 1 rfl) ?_
      refine r_iald hxR hbR hK hI 17 (n := 8) (J := P) (f := ia 0) (v := (ia 0) P) (mW_g0 rfl) (by omega) (by decide) rfl dX5_noMan_41 ?_
      refine lv_if_ne (tgt := 54) hxR hbR dX5_noMan_42 (by decide) (fun c_42 => ?_) (fun c_42 => ?_)
      · skip
        have hv : noManV (ia 0) (nI P) = 0 := by rw [noManV_n hP, if_neg c_26, if_neg c_42]
        refine lv_iconst (v := 0) hxR hbR dX5_noMan_54 (by decide) ?_
        have hI : wI E AR sR H locs (mW E ad kp tr iv (va_up ia 9 (bumpR (ia 9) (noManV (ia 0) (nI P)))) K R mv) := by rw [hv]; first | (rw [bump_4]; exact hI) | (rw [bump_0, va_up_id rfl]; exact hI)
        exact hret () 0 _ _ _ _ _ _ dX5_noMan_55 hI (by show 0 = noManV (ia 0) (nI P); rw [hv]) (Nat.le_of_ble_eq_true rfl) (Nat.le_of_ble_eq_true rfl) rfl
      · skip
        refine lv_aload_n hxR hbR dX5_noMan_45 rfl (lv_at hl 0 rfl) ?_
        refine lv_bipush (v := (-4)) hxR hbR dX5_noMan_46 (by decide) ?_
        refine kVI (n := 1) (As := [.int (-4)]) (rest := []) (fun w => w) hxR hbR hmlR hts hown hK hA hl.1 isCtx.id hI (c5_refuse l E ad kp tr iv ia K R mv (-4) 4 (by decide) (by decide)) (lw_V q1624 q1626 qs34 q86 q1627) ⟨rfl, by decide +kernel⟩ 16 5 rfl rfl mW_o rfl (Nat.le_of_ble_eq_true rfl) (Nat.le_of_ble_eq_true rfl) ⟨Nat.le_of_ble_eq_true rfl, Nat.le_of_ble_eq_true rfl⟩ (Nat.le_of_ble_eq_true rfl) dX5_noMan_48 (fun r_48 u H locs hp hI hz => ?_)
        have hI : wI E AR sR H locs (mW E ad kp tr iv (va_up ia 9 (va_up (ia 9) 4 (ia 9 4 + 1))) K R mv) := hI
        have hp : r_48 = (-4) := hp
        have hr_48 := hp
        subst hr_48
        have hv : noManV (ia 0) (nI P) = -4 := by rw [noManV_n hP, if_neg c_26, if_pos c_42]
        refine lv_goto (tgt := 55) hxR hbR dX5_noMan_51 (by decide) ?_
        have hI : wI E AR sR H locs (mW E ad kp tr iv (va_up ia 9 (bumpR (ia 9) (noManV (ia 0) (nI P)))) K R mv) := by rw [hv]; first | (rw [bump_4]; exact hI) | (rw [bump_0, va_up_id rfl]; exact hI)
        exact hret () (-4) _ _ _ _ _ _ dX5_noMan_55 hI (by show (-4) = noManV (ia 0) (nI P); rw [hv]) (Nat.le_of_ble_eq_true rfl) (Nat.le_of_ble_eq_true rfl) rfl
    · skip
      refine lv_aload_n hxR hbR dX5_noMan_29 rfl (lv_at hl 0 rfl) ?_
      refine lv_bipush (v := (-3)) hxR hbR dX5_noMan_30 (by decide) ?_
      refine kVI (n := 1) (As := [.int (-3)]) (rest := []) (fun w => w) hxR hbR hmlR hts hown hK hA hl.1 isCtx.id hI (c5_refuse l E ad kp tr iv ia K R mv (-3) 3 (by decide) (by decide)) (lw_V q1624 q1626 qs34 q86 q1627) ⟨rfl, by decide +kernel⟩ 16 5 rfl rfl mW_o rfl (Nat.le_of_ble_eq_true rfl) (Nat.le_of_ble_eq_true rfl) ⟨Nat.le_of_ble_eq_true rfl, Nat.le_of_ble_eq_true rfl⟩ (Nat.le_of_ble_eq_true rfl) dX5_noMan_32 (fun r_32 u H locs hp hI hz => ?_)
      have hI : wI E AR sR H locs (mW E ad kp tr iv (va_up ia 9 (va_up (ia 9) 3 (ia 9 3 + 1))) K R mv) := hI
      have hp : r_32 = (-3) := hp
      have hr_32 := hp
      subst hr_32
      have hv : noManV (ia 0) (nI P) = -3 := by rw [noManV_n hP, if_pos c_26]
      have hI : wI E AR sR H locs (mW E ad kp tr iv (va_up ia 9 (bumpR (ia 9) (noManV (ia 0) (nI P)))) K R mv) := by rw [hv, bump_3]; exact hI
      exact hret () (-3) _ _ _ _ _ _ dX5_noMan_35 hI (by show (-3) = noManV (ia 0) (nI P); rw [hv]) (Nat.le_of_ble_eq_true rfl) (Nat.le_of_ble_eq_true rfl) rfl
  · skip
    have c_6 : ¬ ((0 : Int64).toInt ≤ x.toInt64.toInt ∧ x.toInt64.toInt ≤ (7 : Int64).toInt) := of_decide_eq_false c_6
    have c_6 : ¬ (0 ≤ x.toInt ∧ x.toInt ≤ 7) := by rw [Int32.toInt_toInt64] at c_6; exact c_6
    refine lv_if_ne (tgt := 19) hxR hbR dX5_noMan_9 (by decide) (fun c => absurd c (by decide)) (fun _ => ?_)
    refine lv_aload_n hxR hbR dX5_noMan_12 rfl (lv_at hl 0 rfl) ?_
    refine lv_bipush (v := (-2)) hxR hbR dX5_noMan_13 (by decide) ?_
    refine kVI (n := 1) (As := [.int (-2)]) (rest := []) (fun w => w) hxR hbR hmlR hts hown hK hA hl.1 isCtx.id hI (c5_refuse l E ad kp tr iv ia K R mv (-2) 2 (by decide) (by decide)) (lw_V q1624 q1626 qs34 q86 q1627) ⟨rfl, by decide +kernel⟩ 16 5 rfl rfl mW_o rfl (Nat.le_of_ble_eq_true rfl) (Nat.le_of_ble_eq_true rfl) ⟨Nat.le_of_ble_eq_true rfl, Nat.le_of_ble_eq_true rfl⟩ (Nat.le_of_ble_eq_true rfl) dX5_noMan_15 (fun r_15 u H locs hp hI hz => ?_)
    have hI : wI E AR sR H locs (mW E ad kp tr iv (va_up ia 9 (va_up (ia 9) 2 (ia 9 2 + 1))) K R mv) := hI
    have hp : r_15 = (-2) := hp
    have hr_15 := hp
    subst hr_15
    have hv : noManV (ia 0) x = -2 := if_neg c_6
    have hI : wI E AR sR H locs (mW E ad kp tr iv (va_up ia 9 (bumpR (ia 9) (noManV (ia 0) x))) K R mv) := by rw [hv, bump_2]; exact hI
    exact hret () (-2) _ _ _ _ _ _ dX5_noMan_18 hI (by show (-2) = noManV (ia 0) x; rw [hv]) (Nat.le_of_ble_eq_true rfl) (Nat.le_of_ble_eq_true rfl) rfl

theorem c5_below (l : Launch) (E : En) (ad : Nat → Nat) (kp tr : Option Nat) (iv : Nat → Int32) (ia K : Nat → Nat → Int32) (R : Nat → Nat → Int64) (mv : Nat → Int64) (kk : Int32) (hk0 : ¬ kk = 0) : CtI l E yX5_below cX5_below 2 .int 0 0 0 [.ref (ad 45), .int kk] (mW E ad kp tr iv ia K R mv) (fun (r : Int32) (u : Unit) => r = drV (iv 19) kk) (fun (u : Unit) => mW E ad kp tr (va_up iv 19 (drS (iv 19))) ia K R mv) := by
  refine CtI.of (by decide +kernel) (Nat.le_of_ble_eq_true rfl) ?_
  intro pR eR sR mR aR bR tR cR AR ls QR hxR hbR hmlR hts hown hlk hnm hA hK hI hl hret
  have hl : lv_has ls 2 [(0, .ref (ad 45)), (1, .int kk)] := hl
  refine lv_aload_n hxR hbR dX5_below_0 rfl (lv_at hl 0 rfl) ?_
  refine lv_aload_n hxR hbR dX5_below_1 rfl (lv_at hl 0 rfl) ?_
  refine r_get hxR hbR hts hown hK hI okX5 (ci := 5) rfl 16 mW_o 19 (by decide) q1497 rfl (v := .int (iv 19)) (al rfl) dX5_below_2 ?_
  refine lv_ldcw (v := 1103515245) hxR hbR hown (hts _ q2037) dX5_below_5 ?_
  refine lv_imul hxR hbR dX5_below_8 ?_
  refine lv_sipush (v := 12345) hxR hbR dX5_below_9 (by decide) ?_
  refine lv_iadd hxR hbR dX5_below_12 ?_
  refine r_put (v := .int (((iv 19) * 1103515245) + 12345)) (ws1 := mW E ad kp tr (va_up iv 19 (((iv 19) * 1103515245) + 12345)) ia K R mv) hxR hbR hts hown hK hI okX5 (ci := 5) rfl 16 mW_o 19 (by decide) q1497 rfl rfl rfl rfl (Nat.le_of_ble_eq_true rfl) mW_i19 dX5_below_13 (fun H locs hI => ?_)
  refine lv_aload_n hxR hbR dX5_below_16 rfl (lv_at hl 0 rfl) ?_
  refine r_get hxR hbR hts hown hK hI okX5 (ci := 5) rfl 16 mW_o 19 (by decide) q1497 rfl (v := .int (((iv 19) * 1103515245) + 12345)) (al va_up_s) dX5_below_17 ?_
  refine lv_bipush (v := 16) hxR hbR dX5_below_20 (by decide) ?_
  refine lv_iushr (v := ((((iv 19) * 1103515245) + 12345).toUInt32 >>> ((16 : Int32).toUInt32 &&& Int32.toUInt32 31)).toInt32) hxR hbR dX5_below_22 rfl ?_
  refine lv_iload_n hxR hbR dX5_below_23 rfl (lv_at hl 1 rfl) ?_
  refine lv_irem hxR hbR dX5_below_24 hk0 ?_
  exact hret () ((((((iv 19) * 1103515245) + 12345).toUInt32 >>> ((16 : Int32).toUInt32 &&& Int32.toUInt32 31)).toInt32) - (((((iv 19) * 1103515245) + 12345).toUInt32 >>> ((16 : Int32).toUInt32 &&& Int32.toUInt32 31)).toInt32) / kk * kk) _ _ _ _ _ _ dX5_below_25 hI (by show ((((((iv 19) * 1103515245) + 12345).toUInt32 >>> ((16 : Int32).toUInt32 &&& Int32.toUInt32 31)).toInt32) - (((((iv 19) * 1103515245) + 12345).toUInt32 >>> ((16 : Int32).toUInt32 &&& Int32.toUInt32 31)).toInt32) / kk * kk) = drV (iv 19) kk; rfl) (Nat.le_of_ble_eq_true rfl) (Nat.le_of_ble_eq_true rfl) rfl

theorem c5_dayOf (l : Launch) (E : En) (ad : Nat → Nat) (kp tr : Option Nat) (iv : Nat → Int32) (ia K : Nat → Nat → Int32) (R : Nat → Nat → Int64) (mv : Nat → Int64) (n st kd k9 : Nat) (hn : iv 10 = nI n) (hst : iv 14 = nI st) (hn7 : n ≤ 7) (hs2 : 2 ≤ st) (hs4 : st ≤ 4) (hkd : kd < 100) (h9 : k9 < 100) (hh : ∀ q, q < n → ∃ x, x < 24 ∧ ia 11 q = nI x) : CtI l E yX5_dayOf cX5_dayOf 4 .int 261 0 0 [.ref (ad 45), .int (nI kd), .int (nI k9)] (mW E ad kp tr iv ia K R mv) (fun (r : Int32) (u : Int32 × (Nat → Int32)) => r = nI ((dayP K (ia 12) (ia 11) n st kd k9 (ia 35) n).1.length)) (fun (u : Int32 × (Nat → Int32)) => mW E ad kp tr (va_up (va_up (va_up iv 30 u.1) 33 (nI ((dayP K (ia 12) (ia 11) n st kd k9 (ia 35) n).1.length))) 34 (nI ((dayP K (ia 12) (ia 11) n st kd k9 (ia 35) n).2.1))) (va_up (va_up (va_up (va_up ia 29 u.2) 31 (wrL (ia 31) 0 (comL (ia 11) n))) 32 (wrL (ia 32) 0 (dayP K (ia 12) (ia 11) n st kd k9 (ia 35) n).1)) 35 (leaveW (ia 12) (ia 11) 24 (dayP K (ia 12) (ia 11) n st kd k9 (ia 35) n).2.1 n (dayP K (ia 12) (ia 11) n st kd k9 (ia 35) n).2.2)) (meetsK n K (dayP K (ia 12) (ia 11) n st kd k9 (ia 35) n).1) R mv) := by
  have hdi := dayP_inv (K := K) (cost := ia 12) (hour := ia 11) (st := st) (kd := kd) (a := k9) (w0 := ia 35) hn7 hh n (Nat.le_refl n)
  refine CtI.of (by decide +kernel) (Nat.le_of_ble_eq_true rfl) ?_
  intro pR eR sR mR aR bR tR cR AR ls QR hxR hbR hmlR hts hown hlk hnm hA hK hI hl hret
  have hl : lv_has ls 4 [(0, .ref (ad 45)), (1, .int (nI kd)), (2, .int (nI k9))] := hl
  refine lv_aload_n hxR hbR dX5_dayOf_0 rfl (lv_at hl 0 rfl) ?_
  refine lv_iload_n hxR hbR dX5_dayOf_1 rfl (lv_at hl 1 rfl) ?_
  refine lv_iload_n hxR hbR dX5_dayOf_2 rfl (lv_at hl 2 rfl) ?_
  refine kVV (n := 2) (As := [.int (nI kd), .int (nI k9)]) (rest := []) (fun w => w) hxR hbR hmlR hts hown hK hA hl.1 isCtx.id hI (c5_goesBy l E ad kp tr iv ia K R mv n st kd k9 hn hst (by first | omega | with_reducible assumption) (by first | omega | with_reducible assumption) (by first | omega | with_reducible assumption) (by first | omega | with_reducible assumption) (by first | omega | with_reducible assumption) hh) (lw_V q1902 q1904 qs67 q86 q1905) ⟨rfl, by decide +kernel⟩ 16 5 rfl rfl mW_o rfl (Nat.le_of_ble_eq_true rfl) (Nat.le_of_ble_eq_true rfl) ⟨Nat.le_of_ble_eq_true rfl, Nat.le_of_ble_eq_true rfl⟩ (Nat.le_of_ble_eq_true rfl) dX5_dayOf_3 (fun u H locs hp hI hz => ?_)
  obtain ⟨c30_3, g29_3⟩ := u
  have hI : wI E AR sR H locs (mW E ad kp tr (va_up (va_up (va_up iv 30 c30_3) 33 (nI ((dayP K (ia 12) (ia 11) n st kd k9 (ia 35) n).1.length))) 34 (nI ((dayP K (ia 12) (ia 11) n st kd k9 (ia 35) n).2.1))) (va_up (va_up (va_up (va_up ia 29 g29_3) 31 (wrL (ia 31) 0 (comL (ia 11) n))) 32 (wrL (ia 32) 0 (dayP K (ia 12) (ia 11) n st kd k9 (ia 35) n).1)) 35 (leaveW (ia 12) (ia 11) 24 (dayP K (ia 12) (ia 11) n st kd k9 (ia 35) n).2.1 n (dayP K (ia 12) (ia 11) n st kd k9 (ia 35) n).2.2)) K R mv) := hI
  refine lv_iconst (v := 0) hxR hbR dX5_dayOf_6 (by decide) ?_
  refine lv_istore_n (lv' := [(3, .int 0), (0, .ref (ad 45)), (1, .int (nI kd)), (2, .int (nI k9))]) hxR hbR dX5_dayOf_7 rfl hl (by decide) rfl (fun ls hl => ?_)
  have lp_8 : ∀ (fu : Nat) (i : Nat) (Kx : Nat → Nat → Int32), (i ≤ (dayP K (ia 12) (ia 11) n st kd k9 (ia 35) n).1.length) → (Kx = meetsK n K ((dayP K (ia 12) (ia 11) n st kd k9 (ia 35) n).1.take i)) → (dayP K (ia 12) (ia 11) n st kd k9 (ia 35) n).1.length - i < fu → ∀ (H : Heap) (locs : List Loc), wI E AR sR H locs (mW E ad kp tr (va_up (va_up (va_up iv 30 c30_3) 33 (nI ((dayP K (ia 12) (ia 11) n st kd k9 (ia 35) n).1.length))) 34 (nI ((dayP K (ia 12) (ia 11) n st kd k9 (ia 35) n).2.1))) (va_up (va_up (va_up (va_up ia 29 g29_3) 31 (wrL (ia 31) 0 (comL (ia 11) n))) 32 (wrL (ia 32) 0 (dayP K (ia 12) (ia 11) n st kd k9 (ia 35) n).1)) 35 (leaveW (ia 12) (ia 11) 24 (dayP K (ia 12) (ia 11) n st kd k9 (ia 35) n).2.1 n (dayP K (ia 12) (ia 11) n st kd k9 (ia 35) n).2.2)) Kx R mv) → ∀ ls : Array Slot, lv_has ls 4 [(0, .ref (ad 45)), (1, .int (nI kd)), (2, .int (nI k9)), (3, .int (nI i))] → W pR l eR (rmF 261 0 0) sR mR aR bR tR cR H locs 0 0 QR (F0 mR 8 ls []) := by
    intro fu
    induction fu with
    | zero =>
      intro i Kx hi hKx hfu
      exact absurd hfu (Nat.not_lt_zero _)
    | succ fu ih_8 =>
      intro i Kx hi hKx hfu H locs hI ls hl
      refine lv_iload_n hxR hbR dX5_dayOf_8 rfl (lv_at hl 3 rfl) ?_
      refine lv_aload_n hxR hbR dX5_dayOf_9 rfl (lv_at hl 0 rfl) ?_
      refine r_get hxR hbR hts hown hK hI okX5 (ci := 5) rfl 16 mW_o 33 (by decide) q1511 rfl (v := .int (nI ((dayP K (ia 12) (ia 11) n st kd k9 (ia 35) n).1.length))) (al (up_n (by decide) va_up_s)) dX5_dayOf_10 ?_
      refine lv_icmp_ge (tgt := 33) hxR hbR dX5_dayOf_13 (by decide) (fun c_13 => ?_) (fun c_13 => ?_)
      · skip
        have c_13 : ((dayP K (ia 12) (ia 11) n st kd k9 (ia 35) n).1.length) ≤ i := (n_le (a := ((dayP K (ia 12) (ia 11) n st kd k9 (ia 35) n).1.length)) (b := i) (by omega) (by omega)).mp c_13
        refine lv_aload_n hxR hbR dX5_dayOf_33 rfl (lv_at hl 0 rfl) ?_
        refine r_get hxR hbR hts hown hK hI okX5 (ci := 5) rfl 16 mW_o 33 (by decide) q1511 rfl (v := .int (nI ((dayP K (ia 12) (ia 11) n st kd k9 (ia 35) n).1.length))) (al (up_n (by decide) va_up_s)) dX5_dayOf_34 ?_
        have hI : wI E AR sR H locs (mW E ad kp tr (va_up (va_up (va_up iv 30 c30_3) 33 (nI ((dayP K (ia 12) (ia 11) n st kd k9 (ia 35) n).1.length))) 34 (nI ((dayP K (ia 12) (ia 11) n st kd k9 (ia 35) n).2.1))) (va_up (va_up (va_up (va_up ia 29 g29_3) 31 (wrL (ia 31) 0 (comL (ia 11) n))) 32 (wrL (ia 32) 0 (dayP K (ia 12) (ia 11) n st kd k9 (ia 35) n).1)) 35 (leaveW (ia 12) (ia 11) 24 (dayP K (ia 12) (ia 11) n st kd k9 (ia 35) n).2.1 n (dayP K (ia 12) (ia 11) n st kd k9 (ia 35) n).2.2)) (meetsK n K (dayP K (ia 12) (ia 11) n st kd k9 (ia 35) n).1) R mv) := by rw [List.take_of_length_le (by omega)] at hKx; rw [← hKx]; exact hI
        exact hret (c30_3, g29_3) (nI ((dayP K (ia 12) (ia 11) n st kd k9 (ia 35) n).1.length)) _ _ _ _ _ _ dX5_dayOf_37 hI (by show (nI ((dayP K (ia 12) (ia 11) n st kd k9 (ia 35) n).1.length)) = nI ((dayP K (ia 12) (ia 11) n st kd k9 (ia 35) n).1.length); rfl) (Nat.le_of_ble_eq_true rfl) (Nat.le_of_ble_eq_true rfl) rfl
      · skip
        have c_13 : i < ((dayP K (ia 12) (ia 11) n st kd k9 (ia 35) n).1.length) := Nat.lt_of_not_le (fun zz => c_13 ((n_le (a := ((dayP K (ia 12) (ia 11) n st kd k9 (ia 35) n).1.length)) (b := i) (by omega) (by omega)).mpr zz))
        refine lv_aload_n hxR hbR dX5_dayOf_16 rfl (lv_at hl 0 rfl) ?_
        refine lv_aload_n hxR hbR dX5_dayOf_17 rfl (lv_at hl 0 rfl) ?_
        refine r_get hxR hbR hts hown hK hI okX5 (ci := 5) rfl 16 mW_o 32 (by decide) q1510 rfl (v := .ref (ad 32)) rfl dX5_dayOf_18 ?_
        refine lv_iload_n hxR hbR dX5_dayOf_21 rfl (lv_at hl 3 rfl) ?_
        refine r_iald hxR hbR hK hI 32 (n := 7) (J := i) (f := wrL (ia 32) 0 (dayP K (ia 12) (ia 11) n st kd k9 (ia 35) n).1) (v := nI ((dayP K (ia 12) (ia 11) n st kd k9 (ia 35) n).1.getD i 0)) (mW_g32 (up_n (by decide) va_up_s)) (by omega) (by decide) (wrL_in _ (by omega)) dX5_dayOf_22 ?_
        refine kVI (n := 1) (As := [.int (nI ((dayP K (ia 12) (ia 11) n st kd k9 (ia 35) n).1.getD i 0))]) (rest := []) (fun w => w) hxR hbR hmlR hts hown hK hA hl.1 isCtx.id hI (c5_meets l E ad kp tr (va_up (va_up (va_up iv 30 c30_3) 33 (nI ((dayP K (ia 12) (ia 11) n st kd k9 (ia 35) n).1.length))) 34 (nI ((dayP K (ia 12) (ia 11) n st kd k9 (ia 35) n).2.1))) (va_up (va_up (va_up (va_up ia 29 g29_3) 31 (wrL (ia 31) 0 (comL (ia 11) n))) 32 (wrL (ia 32) 0 (dayP K (ia 12) (ia 11) n st kd k9 (ia 35) n).1)) 35 (leaveW (ia 12) (ia 11) 24 (dayP K (ia 12) (ia 11) n st kd k9 (ia 35) n).2.1 n (dayP K (ia 12) (ia 11) n st kd k9 (ia 35) n).2.2)) Kx R mv n ((dayP K (ia 12) (ia 11) n st kd k9 (ia 35) n).1.getD i 0) (up_n (by decide) (up_n (by decide) (up_n (by decide) hn))) (by omega) (by have := hdi.2.2 _ (getD_mem c_13); omega)) (lw_V q1845 q1847 qs62 q86 q1848) ⟨rfl, by decide +kernel⟩ 16 5 rfl rfl mW_o rfl (Nat.le_of_ble_eq_true rfl) (Nat.le_of_ble_eq_true rfl) ⟨Nat.le_of_ble_eq_true rfl, Nat.le_of_ble_eq_true rfl⟩ (Nat.le_of_ble_eq_true rfl) dX5_dayOf_23 (fun r_23 u H locs hp hI hz => ?_)
        have hI : wI E AR sR H locs (mW E ad kp tr (va_up (va_up (va_up iv 30 c30_3) 33 (nI ((dayP K (ia 12) (ia 11) n st kd k9 (ia 35) n).1.length))) 34 (nI ((dayP K (ia 12) (ia 11) n st kd k9 (ia 35) n).2.1))) (va_up (va_up (va_up (va_up ia 29 g29_3) 31 (wrL (ia 31) 0 (comL (ia 11) n))) 32 (wrL (ia 32) 0 (dayP K (ia 12) (ia 11) n st kd k9 (ia 35) n).1)) 35 (leaveW (ia 12) (ia 11) 24 (dayP K (ia 12) (ia 11) n st kd k9 (ia 35) n).2.1 n (dayP K (ia 12) (ia 11) n st kd k9 (ia 35) n).2.2)) (meetK Kx ((dayP K (ia 12) (ia 11) n st kd k9 (ia 35) n).1.getD i 0) n) R mv) := hI
        have hp : r_23 = nI (mC Kx ((dayP K (ia 12) (ia 11) n st kd k9 (ia 35) n).1.getD i 0) n) := hp
        have hr_23 := hp
        subst hr_23
        refine lv_pop hxR hbR dX5_dayOf_26 rfl ?_
        refine lv_iinc (v := nI (i + 1)) (lv' := [(3, .int (nI (i + 1))), (0, .ref (ad 45)), (1, .int (nI kd)), (2, .int (nI k9))]) hxR hbR dX5_dayOf_27 hl (k := 3) rfl (show nI i + 1 = nI (i + 1) from nI_add _ 1) (by decide) rfl (fun ls hl => ?_)
        refine lv_goto (tgt := 8) hxR hbR dX5_dayOf_30 (by decide) ?_
        exact ih_8 (i + 1) (meetK Kx ((dayP K (ia 12) (ia 11) n st kd k9 (ia 35) n).1.getD i 0) n) (by first | omega | with_reducible assumption) (by rw [hKx, meetsK_s c_13]) (by omega) _ _ hI _ (lv_sub hl [1, 2, 3, 0] rfl)
  exact lp_8 _ 0 K (by first | omega | with_reducible assumption) rfl (Nat.lt_succ_self _) _ _ hI _ (lv_sub hl [1, 2, 3, 0] rfl)
