theorem c5_firstIn (l : Launch) (E : En) (ad : Nat → Nat) (kp tr : Option Nat) (iv : Nat → Int32) (ia K : Nat → Nat → Int32) (R : Nat → Nat → Int64) (mv : Nat → Int64) (S : Nat) (L : List Nat) (hc : iv 30 = nI L.length) (hL : isL (ia 29) L) : CtI l E yX5_firstIn cX5_firstIn 3 .int 0 0 0 [.ref (ad 45), .int (nI S)] (mW E ad kp tr iv ia K R mv) (fun (r : Int32) (u : Unit) => r = nI (firstL S L)) (fun (u : Unit) => mW E ad kp tr iv ia K R mv) := by
  have hl70 := hL.2.1
  refine CtI.of (by decide +kernel) (Nat.le_of_ble_eq_true rfl) ?_
  intro pR eR sR mR aR bR tR cR AR ls QR hxR hbR hmlR hts hown hlk hnm hA hK hI hl hret
  have hl : lv_has ls 3 [(0, .ref (ad 45)), (1, .int (nI S))] := hl
  refine lv_iconst (v := 0) hxR hbR dX5_firstIn_0 (by decide) ?_
  refine lv_istore_n (lv' := [(2, .int 0), (0, .ref (ad 45)), (1, .int (nI S))]) hxR hbR dX5_firstIn_1 rfl hl (by decide) rfl (fun ls hl => ?_)
  have lp_2 : ∀ (fu : Nat) (i : Nat), (i ≤ L.length) → (firstL S (L.drop i) = firstL S L) → L.length - i < fu → ∀ (H : Heap) (locs : List Loc), wI E AR sR H locs (mW E ad kp tr iv ia K R mv) → ∀ ls : Array Slot, lv_has ls 3 [(0, .ref (ad 45)), (1, .int (nI S)), (2, .int (nI i))] → W pR l eR (rmF 0 0 0) sR mR aR bR tR cR H locs 0 0 QR (F0 mR 2 ls []) := by
    intro fu
    induction fu with
    | zero =>
      intro i hi hf hfu
      exact absurd hfu (Nat.not_lt_zero _)
    | succ fu ih_2 =>
      intro i hi hf hfu H locs hI ls hl
      refine lv_iload_n hxR hbR dX5_firstIn_2 rfl (lv_at hl 2 rfl) ?_
      refine lv_aload_n hxR hbR dX5_firstIn_3 rfl (lv_at hl 0 rfl) ?_
      refine r_get hxR hbR hts hown hK hI okX5 (ci := 5) rfl 16 mW_o 30 (by decide) q1508 rfl (v := .int (nI L.length)) (al hc) dX5_firstIn_4 ?_
      refine lv_icmp_ge (tgt := 36) hxR hbR dX5_firstIn_7 (by decide) (fun c_7 => ?_) (fun c_7 => ?_)
      · skip
        have c_7 : L.length ≤ i := (n_le (a := L.length) (b := i) (by omega) (by omega)).mp c_7
        refine lv_iconst (v := 0) hxR hbR dX5_firstIn_36 (by decide) ?_
        exact hret () 0 _ _ _ _ _ _ dX5_firstIn_37 hI (by show 0 = nI (firstL S L); rw [← hf, List.drop_eq_nil_of_le (by omega)]; rfl) (Nat.le_of_ble_eq_true rfl) (Nat.le_of_ble_eq_true rfl) rfl
      · skip
        have c_7 : i < L.length := Nat.lt_of_not_le (fun zz => c_7 ((n_le (a := L.length) (b := i) (by omega) (by omega)).mpr zz))
        refine lv_aload_n hxR hbR dX5_firstIn_10 rfl (lv_at hl 0 rfl) ?_
        refine r_get hxR hbR hts hown hK hI okX5 (ci := 5) rfl 16 mW_o 29 (by decide) q1507 rfl (v := .ref (ad 29)) rfl dX5_firstIn_11 ?_
        refine lv_iload_n hxR hbR dX5_firstIn_14 rfl (lv_at hl 2 rfl) ?_
        refine r_iald hxR hbR hK hI 30 (n := 70) (J := i) (f := ia 29) (v := nI (L.getD i 0)) (mW_g29 rfl) (by omega) (by decide) (hL.at (by omega)) dX5_firstIn_15 ?_
        refine lv_iload_n hxR hbR dX5_firstIn_16 rfl (lv_at hl 1 rfl) ?_
        refine lv_iconst (v := (-1)) hxR hbR dX5_firstIn_17 (by decide) ?_
        refine lv_ixor hxR hbR dX5_firstIn_18 ?_
        refine lv_iand hxR hbR dX5_firstIn_19 ?_
        refine lv_as (y := nI (nd (L.getD i 0) S)) (nb_nd (L.getD i 0) S) ?_
        refine lv_if_ne (tgt := 30) hxR hbR dX5_firstIn_20 (by decide) (fun c_20 => ?_) (fun c_20 => ?_)
        · skip
          have c_20 : ¬ (nd (L.getD i 0) S) = 0 := fun zz => c_20 ((n_eq (a := (nd (L.getD i 0) S)) (b := 0) (by have := nd_le (L.getD i 0) S; have := hL.lt (j := i) (by omega); omega) (by decide)).mpr zz)
          refine lv_iinc (v := nI (i + 1)) (lv' := [(2, .int (nI (i + 1))), (0, .ref (ad 45)), (1, .int (nI S))]) hxR hbR dX5_firstIn_30 hl (k := 2) rfl (show nI i + 1 = nI (i + 1) from nI_add _ 1) (by decide) rfl (fun ls hl => ?_)
          refine lv_goto (tgt := 2) hxR hbR dX5_firstIn_33 (by decide) ?_
          exact ih_2 (i + 1) (by first | omega | with_reducible assumption) (by rw [← hf, dropD (i := i) (by omega), firstL, if_neg c_20]) (by omega) _ _ hI _ (lv_sub hl [1, 2, 0] rfl)
        · skip
          have c_20 : (nd (L.getD i 0) S) = 0 := (n_eq (a := (nd (L.getD i 0) S)) (b := 0) (by have := nd_le (L.getD i 0) S; have := hL.lt (j := i) (by omega); omega) (by decide)).mp c_20
          refine lv_aload_n hxR hbR dX5_firstIn_23 rfl (lv_at hl 0 rfl) ?_
          refine r_get hxR hbR hts hown hK hI okX5 (ci := 5) rfl 16 mW_o 29 (by decide) q1507 rfl (v := .ref (ad 29)) rfl dX5_firstIn_24 ?_
          refine lv_iload_n hxR hbR dX5_firstIn_27 rfl (lv_at hl 2 rfl) ?_
          refine r_iald hxR hbR hK hI 30 (n := 70) (J := i) (f := ia 29) (v := nI (L.getD i 0)) (mW_g29 rfl) (by omega) (by decide) (hL.at (by omega)) dX5_firstIn_28 ?_
          exact hret () (nI (L.getD i 0)) _ _ _ _ _ _ dX5_firstIn_29 hI (by show (nI (L.getD i 0)) = nI (firstL S L); rw [← hf, dropD (i := i) (by omega), firstL, if_pos c_20]) (Nat.le_of_ble_eq_true rfl) (Nat.le_of_ble_eq_true rfl) rfl
  exact lp_2 _ 0 (by first | omega | with_reducible assumption) rfl (Nat.lt_succ_self _) _ _ hI _ (lv_sub hl [1, 2, 0] rfl)

theorem c5_groupsOf (l : Launch) (E : En) (ad : Nat → Nat) (kp tr : Option Nat) (iv : Nat → Int32) (ia K : Nat → Nat → Int32) (R : Nat → Nat → Int64) (mv : Nat → Int64) (n st S : Nat) (hn : iv 10 = nI n) (hst : iv 14 = nI st) (hn8 : n ≤ 8) (hs2 : 2 ≤ st) (hs4 : st ≤ 4) : CtI l E yX5_groupsOf cX5_groupsOf 4 .int 11 0 0 [.ref (ad 45), .int (nI S)] (mW E ad kp tr iv ia K R mv) (fun (r : Int32) (u : Unit) => r = nI (cntL S (GL K n st))) (fun (u : Unit) => mW E ad kp tr (va_up iv 30 (nI ((GL K n st).length))) (va_up ia 29 (wrL (ia 29) 0 (GL K n st))) K R mv) := by
  refine CtI.of (by decide +kernel) (Nat.le_of_ble_eq_true rfl) ?_
  intro pR eR sR mR aR bR tR cR AR ls QR hxR hbR hmlR hts hown hlk hnm hA hK hI hl hret
  have hl : lv_has ls 4 [(0, .ref (ad 45)), (1, .int (nI S))] := hl
  refine lv_aload_n hxR hbR dX5_groupsOf_0 rfl (lv_at hl 0 rfl) ?_
  refine kVV (n := 0) (As := []) (rest := []) (fun w => w) hxR hbR hmlR hts hown hK hA hl.1 isCtx.id hI (c5_listAll l E ad kp tr iv ia K R mv n st hn hst (by first | omega | with_reducible assumption) (by first | omega | with_reducible assumption)) (lw_V q1672 q1674 qs38 q86 q1675) ⟨rfl, by decide +kernel⟩ 16 5 rfl rfl mW_o rfl (Nat.le_of_ble_eq_true rfl) (Nat.le_of_ble_eq_true rfl) ⟨Nat.le_of_ble_eq_true rfl, Nat.le_of_ble_eq_true rfl⟩ (Nat.le_of_ble_eq_true rfl) dX5_groupsOf_1 (fun u H locs hp hI hz => ?_)
  have hI : wI E AR sR H locs (mW E ad kp tr (va_up iv 30 (nI ((GL K n st).length))) (va_up ia 29 (wrL (ia 29) 0 (GL K n st))) K R mv) := hI
  have hL := isL_GL (f := ia 29) (K := K) hn8 hs2 hs4
  have hl70 := hL.2.1
  refine lv_iconst (v := 0) hxR hbR dX5_groupsOf_4 (by decide) ?_
  refine lv_istore_n (lv' := [(2, .int 0), (0, .ref (ad 45)), (1, .int (nI S))]) hxR hbR dX5_groupsOf_5 rfl hl (by decide) rfl (fun ls hl => ?_)
  refine lv_iconst (v := 0) hxR hbR dX5_groupsOf_6 (by decide) ?_
  refine lv_istore_n (lv' := [(3, .int 0), (2, .int 0), (0, .ref (ad 45)), (1, .int (nI S))]) hxR hbR dX5_groupsOf_7 rfl hl (by decide) rfl (fun ls hl => ?_)
  have lp_8 : ∀ (fu : Nat) (i : Nat) (a : Nat), (i ≤ (GL K n st).length) → (a + cntL S ((GL K n st).drop i) = cntL S (GL K n st)) → (GL K n st).length - i < fu → ∀ (H : Heap) (locs : List Loc), wI E AR sR H locs (mW E ad kp tr (va_up iv 30 (nI ((GL K n st).length))) (va_up ia 29 (wrL (ia 29) 0 (GL K n st))) K R mv) → ∀ ls : Array Slot, lv_has ls 4 [(0, .ref (ad 45)), (1, .int (nI S)), (2, .int (nI a)), (3, .int (nI i))] → W pR l eR (rmF 11 0 0) sR mR aR bR tR cR H locs 0 0 QR (F0 mR 8 ls []) := by
    intro fu
    induction fu with
    | zero =>
      intro i a hi ha hfu
      exact absurd hfu (Nat.not_lt_zero _)
    | succ fu ih_8 =>
      intro i a hi ha hfu H locs hI ls hl
      refine lv_iload_n hxR hbR dX5_groupsOf_8 rfl (lv_at hl 3 rfl) ?_
      refine lv_aload_n hxR hbR dX5_groupsOf_9 rfl (lv_at hl 0 rfl) ?_
      refine r_get hxR hbR hts hown hK hI okX5 (ci := 5) rfl 16 mW_o 30 (by decide) q1508 rfl (v := .int (nI ((GL K n st).length))) (al va_up_s) dX5_groupsOf_10 ?_
      refine lv_icmp_ge (tgt := 43) hxR hbR dX5_groupsOf_13 (by decide) (fun c_13 => ?_) (fun c_13 => ?_)
      · skip
        have c_13 : ((GL K n st).length) ≤ i := (n_le (a := ((GL K n st).length)) (b := i) (by omega) (by omega)).mp c_13
        refine lv_iload_n hxR hbR dX5_groupsOf_43 rfl (lv_at hl 2 rfl) ?_
        exact hret () (nI a) _ _ _ _ _ _ dX5_groupsOf_44 hI (by show (nI a) = nI (cntL S (GL K n st)); rw [← ha, List.drop_eq_nil_of_le (by omega)]; rfl) (Nat.le_of_ble_eq_true rfl) (Nat.le_of_ble_eq_true rfl) rfl
      · skip
        have c_13 : i < ((GL K n st).length) := Nat.lt_of_not_le (fun zz => c_13 ((n_le (a := ((GL K n st).length)) (b := i) (by omega) (by omega)).mpr zz))
        refine lv_iload_n hxR hbR dX5_groupsOf_16 rfl (lv_at hl 2 rfl) ?_
        refine lv_aload_n hxR hbR dX5_groupsOf_17 rfl (lv_at hl 0 rfl) ?_
        refine r_get hxR hbR hts hown hK hI okX5 (ci := 5) rfl 16 mW_o 29 (by decide) q1507 rfl (v := .ref (ad 29)) rfl dX5_groupsOf_18 ?_
        refine lv_iload_n hxR hbR dX5_groupsOf_21 rfl (lv_at hl 3 rfl) ?_
        refine r_iald hxR hbR hK hI 30 (n := 70) (J := i) (f := wrL (ia 29) 0 (GL K n st)) (v := nI ((GL K n st).getD i 0)) (mW_g29 va_up_s) (by omega) (by decide) (hL.at (by omega)) dX5_groupsOf_22 ?_
        refine lv_iload_n hxR hbR dX5_groupsOf_23 rfl (lv_at hl 1 rfl) ?_
        refine lv_iconst (v := (-1)) hxR hbR dX5_groupsOf_24 (by decide) ?_
        refine lv_ixor hxR hbR dX5_groupsOf_25 ?_
        refine lv_iand hxR hbR dX5_groupsOf_26 ?_
        refine lv_as (y := nI (nd ((GL K n st).getD i 0) S)) (nb_nd ((GL K n st).getD i 0) S) ?_
        refine lv_if_ne (tgt := 34) hxR hbR dX5_groupsOf_27 (by decide) (fun c_27 => ?_) (fun c_27 => ?_)
        · skip
          have c_27 : ¬ (nd ((GL K n st).getD i 0) S) = 0 := fun zz => c_27 ((n_eq (a := (nd ((GL K n st).getD i 0) S)) (b := 0) (by have := nd_le ((GL K n st).getD i 0) S; have := hL.lt (j := i) (by omega); omega) (by decide)).mpr zz)
          refine lv_iconst (v := 0) hxR hbR dX5_groupsOf_34 (by decide) ?_
          refine lv_iadd hxR hbR dX5_groupsOf_35 ?_
          refine lv_as (y := nI a) (nI_add a 0) ?_
          refine lv_istore_n (lv' := [(2, .int (nI a)), (0, .ref (ad 45)), (1, .int (nI S)), (3, .int (nI i))]) hxR hbR dX5_groupsOf_36 rfl hl (by decide) rfl (fun ls hl => ?_)
          refine lv_iinc (v := nI (i + 1)) (lv' := [(3, .int (nI (i + 1))), (2, .int (nI a)), (0, .ref (ad 45)), (1, .int (nI S))]) hxR hbR dX5_groupsOf_37 hl (k := 3) rfl (show nI i + 1 = nI (i + 1) from nI_add _ 1) (by decide) rfl (fun ls hl => ?_)
          refine lv_goto (tgt := 8) hxR hbR dX5_groupsOf_40 (by decide) ?_
          exact ih_8 (i + 1) a (by first | omega | with_reducible assumption) (by rw [← ha, dropD (i := i) (by omega), cntL]; first | (rw [if_neg c_27]; omega) | (rw [if_pos c_27]; omega)) (by omega) _ _ hI _ (lv_sub hl [2, 3, 1, 0] rfl)
        · skip
          have c_27 : (nd ((GL K n st).getD i 0) S) = 0 := (n_eq (a := (nd ((GL K n st).getD i 0) S)) (b := 0) (by have := nd_le ((GL K n st).getD i 0) S; have := hL.lt (j := i) (by omega); omega) (by decide)).mp c_27
          refine lv_iconst (v := 1) hxR hbR dX5_groupsOf_30 (by decide) ?_
          refine lv_goto (tgt := 35) hxR hbR dX5_groupsOf_31 (by decide) ?_
          refine lv_iadd hxR hbR dX5_groupsOf_35 ?_
          refine lv_as (y := nI (a + 1)) (nI_add a 1) ?_
          refine lv_istore_n (lv' := [(2, .int (nI (a + 1))), (0, .ref (ad 45)), (1, .int (nI S)), (3, .int (nI i))]) hxR hbR dX5_groupsOf_36 rfl hl (by decide) rfl (fun ls hl => ?_)
          refine lv_iinc (v := nI (i + 1)) (lv' := [(3, .int (nI (i + 1))), (2, .int (nI (a + 1))), (0, .ref (ad 45)), (1, .int (nI S))]) hxR hbR dX5_groupsOf_37 hl (k := 3) rfl (show nI i + 1 = nI (i + 1) from nI_add _ 1) (by decide) rfl (fun ls hl => ?_)
          refine lv_goto (tgt := 8) hxR hbR dX5_groupsOf_40 (by decide) ?_
          exact ih_8 (i + 1) (a + 1) (by first | omega | with_reducible assumption) (by rw [← ha, dropD (i := i) (by omega), cntL]; first | (rw [if_neg c_27]; omega) | (rw [if_pos c_27]; omega)) (by omega) _ _ hI _ (lv_sub hl [2, 3, 1, 0] rfl)
  exact lp_8 _ 0 0 (by first | omega | with_reducible assumption) (Nat.zero_add _) (Nat.lt_succ_self _) _ _ hI _ (lv_sub hl [2, 3, 1, 0] rfl)

theorem c5_mostIn (l : Launch) (E : En) : ∀ (r : Nat) (ad : Nat → Nat) (kp tr : Option Nat) (iv : Nat → Int32) (ia K : Nat → Nat → Int32) (R : Nat → Nat → Int64) (mv : Nat → Int64) (S : Nat) (L : List Nat) (hc : iv 30 = nI L.length) (hL : isL (ia 29) L) (hr : r = S) (hS : S < 256), CtI l E yX5_mostIn cX5_mostIn 5 .int (r + 1) 0 0 [.ref (ad 45), .int (nI S)] (mW E ad kp tr iv ia K R mv) (fun (r : Int32) (u : Unit) => r = nI (mostV L S)) (fun (u : Unit) => mW E ad kp tr iv ia K R mv) := by
  intro r
  induction r using Nat.strongRecOn with
  | _ r ih =>
    intro ad kp tr iv ia K R mv S L hc hL hr hS
    refine CtI.of (by decide +kernel) (Nat.le_of_ble_eq_true rfl) ?_
    intro pR eR sR mR aR bR tR cR AR ls QR hxR hbR hmlR hts hown hlk hnm hA hK hI hl hret
    have hl : lv_has ls 5 [(0, .ref (ad 45)), (1, .int (nI S))] := hl
    refine lv_iconst (v := 0) hxR hbR dX5_mostIn_0 (by decide) ?_
    refine lv_istore_n (lv' := [(2, .int 0), (0, .ref (ad 45)), (1, .int (nI S))]) hxR hbR dX5_mostIn_1 rfl hl (by decide) rfl (fun ls hl => ?_)
    refine lv_iconst (v := 0) hxR hbR dX5_mostIn_2 (by decide) ?_
    refine lv_istore_n (lv' := [(3, .int 0), (2, .int 0), (0, .ref (ad 45)), (1, .int (nI S))]) hxR hbR dX5_mostIn_3 rfl hl (by decide) rfl (fun ls hl => ?_)
    have lp_4 : ∀ (fu : Nat) (i : Nat) (b : Nat), (i ≤ L.length) → ((L.drop i).foldl (mostG L S) b = mostV L S) → (b ≤ S) → L.length - i < fu → ∀ (H : Heap) (locs : List Loc), wI E AR sR H locs (mW E ad kp tr iv ia K R mv) → ∀ ls : Array Slot, lv_has ls 5 [(0, .ref (ad 45)), (1, .int (nI S)), (2, .int (nI b)), (3, .int (nI i))] → W pR l eR (rmF (r + 1) 0 0) sR mR aR bR tR cR H locs 0 0 QR (F0 mR 4 ls []) := by
      intro fu
      induction fu with
      | zero =>
        intro i b hi hbb hbS hfu
        exact absurd hfu (Nat.not_lt_zero _)
      | succ fu ih_4 =>
        intro i b hi hbb hbS hfu H locs hI ls hl
        have hl70 := hL.2.1
        refine lv_iload_n hxR hbR dX5_mostIn_4 rfl (lv_at hl 3 rfl) ?_
        refine lv_aload_n hxR hbR dX5_mostIn_5 rfl (lv_at hl 0 rfl) ?_
        refine r_get hxR hbR hts hown hK hI okX5 (ci := 5) rfl 16 mW_o 30 (by decide) q1508 rfl (v := .int (nI L.length)) (al hc) dX5_mostIn_6 ?_
        refine lv_icmp_ge (tgt := 62) hxR hbR dX5_mostIn_9 (by decide) (fun c_9 => ?_) (fun c_9 => ?_)
        · skip
          have c_9 : L.length ≤ i := (n_le (a := L.length) (b := i) (by omega) (by omega)).mp c_9
          refine lv_iload_n hxR hbR dX5_mostIn_62 rfl (lv_at hl 2 rfl) ?_
          exact hret () (nI b) _ _ _ _ _ _ dX5_mostIn_63 hI (by show (nI b) = nI (mostV L S); rw [foldl_e (by omega) hbb]) (Nat.le_of_ble_eq_true rfl) (Nat.le_of_ble_eq_true rfl) rfl
        · skip
          have c_9 : i < L.length := Nat.lt_of_not_le (fun zz => c_9 ((n_le (a := L.length) (b := i) (by omega) (by omega)).mpr zz))
          refine lv_aload_n hxR hbR dX5_mostIn_12 rfl (lv_at hl 0 rfl) ?_
          refine r_get hxR hbR hts hown hK hI okX5 (ci := 5) rfl 16 mW_o 29 (by decide) q1507 rfl (v := .ref (ad 29)) rfl dX5_mostIn_13 ?_
          refine lv_iload_n hxR hbR dX5_mostIn_16 rfl (lv_at hl 3 rfl) ?_
          refine r_iald hxR hbR hK hI 30 (n := 70) (J := i) (f := ia 29) (v := nI (L.getD i 0)) (mW_g29 rfl) (by omega) (by decide) (hL.at (by omega)) dX5_mostIn_17 ?_
          refine lv_iload_n hxR hbR dX5_mostIn_18 rfl (lv_at hl 1 rfl) ?_
          refine lv_iconst (v := (-1)) hxR hbR dX5_mostIn_19 (by decide) ?_
          refine lv_ixor hxR hbR dX5_mostIn_20 ?_
          refine lv_iand hxR hbR dX5_mostIn_21 ?_
          refine lv_as (y := nI (nd (L.getD i 0) S)) (nb_nd (L.getD i 0) S) ?_
          refine lv_if_ne (tgt := 56) hxR hbR dX5_mostIn_22 (by decide) (fun c_22 => ?_) (fun c_22 => ?_)
          · skip
            have c_22 : ¬ (nd (L.getD i 0) S) = 0 := fun zz => c_22 ((n_eq (a := (nd (L.getD i 0) S)) (b := 0) (by have := nd_le (L.getD i 0) S; have := hL.lt (j := i) (by omega); omega) (by decide)).mpr zz)
            refine lv_iinc (v := nI (i + 1)) (lv' := [(3, .int (nI (i + 1))), (0, .ref (ad 45)), (1, .int (nI S)), (2, .int (nI b))]) hxR hbR dX5_mostIn_56 hl (k := 3) rfl (show nI i + 1 = nI (i + 1) from nI_add _ 1) (by decide) rfl (fun ls hl => ?_)
            refine lv_goto (tgt := 4) hxR hbR dX5_mostIn_59 (by decide) ?_
            exact ih_4 (i + 1) b (by first | omega | with_reducible assumption) (by first | exact (mostG_n (b := b) c_22) ▸ foldl_d c_9 hbb | exact (mostG_y1 (b := b) c_22 c_46) ▸ foldl_d c_9 hbb | exact (mostG_y2 (b := b) c_22 c_46) ▸ foldl_d c_9 hbb) (by first | omega | with_reducible assumption) (by omega) _ _ hI _ (lv_sub hl [1, 2, 3, 0] rfl)
          · skip
            have c_22 : (nd (L.getD i 0) S) = 0 := (n_eq (a := (nd (L.getD i 0) S)) (b := 0) (by have := nd_le (L.getD i 0) S; have := hL.lt (j := i) (by omega); omega) (by decide)).mp c_22
            have hlt := nd_lt c_22 (hL.ne c_9)
            have hm := mostV_le hL.nz (nd S (L.getD i 0))
            refine lv_iconst (v := 1) hxR hbR dX5_mostIn_25 (by decide) ?_
            refine lv_aload_n hxR hbR dX5_mostIn_26 rfl (lv_at hl 0 rfl) ?_
            refine lv_iload_n hxR hbR dX5_mostIn_27 rfl (lv_at hl 1 rfl) ?_
            refine lv_aload_n hxR hbR dX5_mostIn_28 rfl (lv_at hl 0 rfl) ?_
            refine r_get hxR hbR hts hown hK hI okX5 (ci := 5) rfl 16 mW_o 29 (by decide) q1507 rfl (v := .ref (ad 29)) rfl dX5_mostIn_29 ?_
            refine lv_iload_n hxR hbR dX5_mostIn_32 rfl (lv_at hl 3 rfl) ?_
            refine r_iald hxR hbR hK hI 30 (n := 70) (J := i) (f := ia 29) (v := nI (L.getD i 0)) (mW_g29 rfl) (by omega) (by decide) (hL.at (by omega)) dX5_mostIn_33 ?_
            refine lv_iconst (v := (-1)) hxR hbR dX5_mostIn_34 (by decide) ?_
            refine lv_ixor hxR hbR dX5_mostIn_35 ?_
            refine lv_iand hxR hbR dX5_mostIn_36 ?_
            refine lv_as (y := nI (nd S (L.getD i 0))) (nb_nd S (L.getD i 0)) ?_
            refine kVI (n := 1) (As := [.int (nI (nd S (L.getD i 0)))]) (rest := [.int 1]) (fun w => w) hxR hbR hmlR hts hown hK hA hl.1 isCtx.id hI (ih (nd S (L.getD i 0)) (by omega) ad kp tr iv ia K R mv (nd S (L.getD i 0)) L hc (isL.of rfl hL) rfl (by first | omega | with_reducible assumption)) (lw_V q1694 q1696 qs42 q86 q1697) ⟨rfl, by decide +kernel⟩ 16 5 rfl rfl mW_o rfl (by omega) (Nat.le_of_ble_eq_true rfl) ⟨Nat.le_of_ble_eq_true rfl, Nat.le_of_ble_eq_true rfl⟩ (Nat.le_of_ble_eq_true rfl) dX5_mostIn_37 (fun r_37 u H locs hp hI hz => ?_)
            have hI : wI E AR sR H locs (mW E ad kp tr iv ia K R mv) := hI
            have hp : r_37 = nI (mostV L (nd S (L.getD i 0))) := hp
            have hr_37 := hp
            subst hr_37
            refine lv_iadd hxR hbR dX5_mostIn_40 ?_
            refine lv_as (y := nI (1 + (mostV L (nd S (L.getD i 0))))) (nI_add 1 (mostV L (nd S (L.getD i 0)))) ?_
            refine lv_istore (lv' := [(4, .int (nI (1 + (mostV L (nd S (L.getD i 0)))))), (0, .ref (ad 45)), (1, .int (nI S)), (2, .int (nI b)), (3, .int (nI i))]) hxR hbR dX5_mostIn_41 hl (by decide) rfl (fun ls hl => ?_)
            refine lv_iload hxR hbR dX5_mostIn_43 (lv_at hl 0 rfl) ?_
            refine lv_iload_n hxR hbR dX5_mostIn_45 rfl (lv_at hl 3 rfl) ?_
            refine lv_icmp_le (tgt := 54) hxR hbR dX5_mostIn_46 (by decide) (fun c_46 => ?_) (fun c_46 => ?_)
            · skip
              have c_46 : (1 + (mostV L (nd S (L.getD i 0)))) ≤ b := (n_le (a := (1 + (mostV L (nd S (L.getD i 0))))) (b := b) (by omega) (by omega)).mp c_46
              refine lv_iload_n hxR hbR dX5_mostIn_54 rfl (lv_at hl 3 rfl) ?_
              refine lv_istore_n (lv' := [(2, .int (nI b)), (4, .int (nI (1 + (mostV L (nd S (L.getD i 0)))))), (0, .ref (ad 45)), (1, .int (nI S)), (3, .int (nI i))]) hxR hbR dX5_mostIn_55 rfl hl (by decide) rfl (fun ls hl => ?_)
              refine lv_iinc (v := nI (i + 1)) (lv' := [(3, .int (nI (i + 1))), (2, .int (nI b)), (4, .int (nI (1 + (mostV L (nd S (L.getD i 0)))))), (0, .ref (ad 45)), (1, .int (nI S))]) hxR hbR dX5_mostIn_56 hl (k := 4) rfl (show nI i + 1 = nI (i + 1) from nI_add _ 1) (by decide) rfl (fun ls hl => ?_)
              refine lv_goto (tgt := 4) hxR hbR dX5_mostIn_59 (by decide) ?_
              exact ih_4 (i + 1) b (by first | omega | with_reducible assumption) (by first | exact (mostG_n (b := b) c_22) ▸ foldl_d c_9 hbb | exact (mostG_y1 (b := b) c_22 c_46) ▸ foldl_d c_9 hbb | exact (mostG_y2 (b := b) c_22 c_46) ▸ foldl_d c_9 hbb) (by first | omega | with_reducible assumption) (by omega) _ _ hI _ (lv_sub hl [3, 4, 1, 0] rfl)
            · skip
              have c_46 : b < (1 + (mostV L (nd S (L.getD i 0)))) := Nat.lt_of_not_le (fun zz => c_46 ((n_le (a := (1 + (mostV L (nd S (L.getD i 0))))) (b := b) (by omega) (by omega)).mpr zz))
              refine lv_iload hxR hbR dX5_mostIn_49 (lv_at hl 0 rfl) ?_
              refine lv_goto (tgt := 55) hxR hbR dX5_mostIn_51 (by decide) ?_
              refine lv_istore_n (lv' := [(2, .int (nI (1 + (mostV L (nd S (L.getD i 0)))))), (4, .int (nI (1 + (mostV L (nd S (L.getD i 0)))))), (0, .ref (ad 45)), (1, .int (nI S)), (3, .int (nI i))]) hxR hbR dX5_mostIn_55 rfl hl (by decide) rfl (fun ls hl => ?_)
              refine lv_iinc (v := nI (i + 1)) (lv' := [(3, .int (nI (i + 1))), (2, .int (nI (1 + (mostV L (nd S (L.getD i 0)))))), (4, .int (nI (1 + (mostV L (nd S (L.getD i 0)))))), (0, .ref (ad 45)), (1, .int (nI S))]) hxR hbR dX5_mostIn_56 hl (k := 4) rfl (show nI i + 1 = nI (i + 1) from nI_add _ 1) (by decide) rfl (fun ls hl => ?_)
              refine lv_goto (tgt := 4) hxR hbR dX5_mostIn_59 (by decide) ?_
              exact ih_4 (i + 1) (1 + (mostV L (nd S (L.getD i 0)))) (by first | omega | with_reducible assumption) (by first | exact (mostG_n (b := b) c_22) ▸ foldl_d c_9 hbb | exact (mostG_y1 (b := b) c_22 c_46) ▸ foldl_d c_9 hbb | exact (mostG_y2 (b := b) c_22 c_46) ▸ foldl_d c_9 hbb) (by first | omega | with_reducible assumption) (by omega) _ _ hI _ (lv_sub hl [3, 4, 1, 0] rfl)
    exact lp_4 _ 0 0 (by first | omega | with_reducible assumption) (mostV_G hL.nz S).symm (by first | omega | with_reducible assumption) (Nat.lt_succ_self _) _ _ hI _ (lv_sub hl [2, 3, 1, 0] rfl)

theorem c5_bestIn (l : Launch) (E : En) (ad : Nat → Nat) (kp tr : Option Nat) (iv : Nat → Int32) (ia K : Nat → Nat → Int32) (R : Nat → Nat → Int64) (mv : Nat → Int64) (S : Nat) (L : List Nat) (hc : iv 30 = nI L.length) (hL : isL (ia 29) L) (hS : S < 256) : CtI l E yX5_bestIn cX5_bestIn 4 .int 258 0 0 [.ref (ad 45), .int (nI S)] (mW E ad kp tr iv ia K R mv) (fun (r : Int32) (u : Unit) => r = nI (bestL L S L)) (fun (u : Unit) => mW E ad kp tr iv ia K R mv) := by
  have hl70 := hL.2.1
  refine CtI.of (by decide +kernel) (Nat.le_of_ble_eq_true rfl) ?_
  intro pR eR sR mR aR bR tR cR AR ls QR hxR hbR hmlR hts hown hlk hnm hA hK hI hl hret
  have hl : lv_has ls 4 [(0, .ref (ad 45)), (1, .int (nI S))] := hl
  refine lv_aload_n hxR hbR dX5_bestIn_0 rfl (lv_at hl 0 rfl) ?_
  refine lv_iload_n hxR hbR dX5_bestIn_1 rfl (lv_at hl 1 rfl) ?_
  refine kVI (n := 1) (As := [.int (nI S)]) (rest := []) (fun w => w) hxR hbR hmlR hts hown hK hA hl.1 isCtx.id hI (c5_mostIn l E S ad kp tr iv ia K R mv S L hc (isL.of rfl hL) rfl (by first | omega | with_reducible assumption)) (lw_V q1694 q1696 qs42 q86 q1697) ⟨rfl, by decide +kernel⟩ 16 5 rfl rfl mW_o rfl (by omega) (Nat.le_of_ble_eq_true rfl) ⟨Nat.le_of_ble_eq_true rfl, Nat.le_of_ble_eq_true rfl⟩ (Nat.le_of_ble_eq_true rfl) dX5_bestIn_2 (fun r_2 u H locs hp hI hz => ?_)
  have hI : wI E AR sR H locs (mW E ad kp tr iv ia K R mv) := hI
  have hp : r_2 = nI (mostV L S) := hp
  have hr_2 := hp
  subst hr_2
  refine lv_istore_n (lv' := [(2, .int (nI (mostV L S))), (0, .ref (ad 45)), (1, .int (nI S))]) hxR hbR dX5_bestIn_5 rfl hl (by decide) rfl (fun ls hl => ?_)
  refine lv_iconst (v := 0) hxR hbR dX5_bestIn_6 (by decide) ?_
  refine lv_istore_n (lv' := [(3, .int 0), (2, .int (nI (mostV L S))), (0, .ref (ad 45)), (1, .int (nI S))]) hxR hbR dX5_bestIn_7 rfl hl (by decide) rfl (fun ls hl => ?_)
  have lp_8 : ∀ (fu : Nat) (i : Nat), (i ≤ L.length) → (bestL L S (L.drop i) = bestL L S L) → L.length - i < fu → ∀ (H : Heap) (locs : List Loc), wI E AR sR H locs (mW E ad kp tr iv ia K R mv) → ∀ ls : Array Slot, lv_has ls 4 [(0, .ref (ad 45)), (1, .int (nI S)), (2, .int (nI (mostV L S))), (3, .int (nI i))] → W pR l eR (rmF 258 0 0) sR mR aR bR tR cR H locs 0 0 QR (F0 mR 8 ls []) := by
    intro fu
    induction fu with
    | zero =>
      intro i hi hf hfu
      exact absurd hfu (Nat.not_lt_zero _)
    | succ fu ih_8 =>
      intro i hi hf hfu H locs hI ls hl
      refine lv_iload_n hxR hbR dX5_bestIn_8 rfl (lv_at hl 3 rfl) ?_
      refine lv_aload_n hxR hbR dX5_bestIn_9 rfl (lv_at hl 0 rfl) ?_
      refine r_get hxR hbR hts hown hK hI okX5 (ci := 5) rfl 16 mW_o 30 (by decide) q1508 rfl (v := .int (nI L.length)) (al hc) dX5_bestIn_10 ?_
      refine lv_icmp_ge (tgt := 62) hxR hbR dX5_bestIn_13 (by decide) (fun c_13 => ?_) (fun c_13 => ?_)
      · skip
        have c_13 : L.length ≤ i := (n_le (a := L.length) (b := i) (by omega) (by omega)).mp c_13
        refine lv_iconst (v := 0) hxR hbR dX5_bestIn_62 (by decide) ?_
        exact hret () 0 _ _ _ _ _ _ dX5_bestIn_63 hI (by show 0 = nI (bestL L S L); rw [← hf, List.drop_eq_nil_of_le (by omega)]; rfl) (Nat.le_of_ble_eq_true rfl) (Nat.le_of_ble_eq_true rfl) rfl
      · skip
        have c_13 : i < L.length := Nat.lt_of_not_le (fun zz => c_13 ((n_le (a := L.length) (b := i) (by omega) (by omega)).mpr zz))
        refine lv_aload_n hxR hbR dX5_bestIn_16 rfl (lv_at hl 0 rfl) ?_
        refine r_get hxR hbR hts hown hK hI okX5 (ci := 5) rfl 16 mW_o 29 (by decide) q1507 rfl (v := .ref (ad 29)) rfl dX5_bestIn_17 ?_
        refine lv_iload_n hxR hbR dX5_bestIn_20 rfl (lv_at hl 3 rfl) ?_
        refine r_iald hxR hbR hK hI 30 (n := 70) (J := i) (f := ia 29) (v := nI (L.getD i 0)) (mW_g29 rfl) (by omega) (by decide) (hL.at (by omega)) dX5_bestIn_21 ?_
        refine lv_iload_n hxR hbR dX5_bestIn_22 rfl (lv_at hl 1 rfl) ?_
        refine lv_iconst (v := (-1)) hxR hbR dX5_bestIn_23 (by decide) ?_
        refine lv_ixor hxR hbR dX5_bestIn_24 ?_
        refine lv_iand hxR hbR dX5_bestIn_25 ?_
        refine lv_as (y := nI (nd (L.getD i 0) S)) (nb_nd (L.getD i 0) S) ?_
        refine lv_if_ne (tgt := 56) hxR hbR dX5_bestIn_26 (by decide) (fun c_26 => ?_) (fun c_26 => ?_)
        · skip
          have c_26 : ¬ (nd (L.getD i 0) S) = 0 := fun zz => c_26 ((n_eq (a := (nd (L.getD i 0) S)) (b := 0) (by have := nd_le (L.getD i 0) S; have := hL.lt (j := i) (by omega); omega) (by decide)).mpr zz)
          refine lv_iinc (v := nI (i + 1)) (lv' := [(3, .int (nI (i + 1))), (0, .ref (ad 45)), (1, .int (nI S)), (2, .int (nI (mostV L S)))]) hxR hbR dX5_bestIn_56 hl (k := 3) rfl (show nI i + 1 = nI (i + 1) from nI_add _ 1) (by decide) rfl (fun ls hl => ?_)
          refine lv_goto (tgt := 8) hxR hbR dX5_bestIn_59 (by decide) ?_
          exact ih_8 (i + 1) (by first | omega | with_reducible assumption) (by rw [← hf, dropD (i := i) (by omega), bestL]; first | rw [if_neg (fun q => c_26 q.1)] | rw [if_neg (fun q => c_46 q.2)]) (by omega) _ _ hI _ (lv_sub hl [1, 2, 3, 0] rfl)
        · skip
          have c_26 : (nd (L.getD i 0) S) = 0 := (n_eq (a := (nd (L.getD i 0) S)) (b := 0) (by have := nd_le (L.getD i 0) S; have := hL.lt (j := i) (by omega); omega) (by decide)).mp c_26
          have hlt := nd_lt c_26 (hL.ne c_13)
          have hm := mostV_le hL.nz (nd S (L.getD i 0))
          have hm2 := mostV_le hL.nz S
          refine lv_aload_n hxR hbR dX5_bestIn_29 rfl (lv_at hl 0 rfl) ?_
          refine lv_iload_n hxR hbR dX5_bestIn_30 rfl (lv_at hl 1 rfl) ?_
          refine lv_aload_n hxR hbR dX5_bestIn_31 rfl (lv_at hl 0 rfl) ?_
          refine r_get hxR hbR hts hown hK hI okX5 (ci := 5) rfl 16 mW_o 29 (by decide) q1507 rfl (v := .ref (ad 29)) rfl dX5_bestIn_32 ?_
          refine lv_iload_n hxR hbR dX5_bestIn_35 rfl (lv_at hl 3 rfl) ?_
          refine r_iald hxR hbR hK hI 30 (n := 70) (J := i) (f := ia 29) (v := nI (L.getD i 0)) (mW_g29 rfl) (by omega) (by decide) (hL.at (by omega)) dX5_bestIn_36 ?_
          refine lv_iconst (v := (-1)) hxR hbR dX5_bestIn_37 (by decide) ?_
          refine lv_ixor hxR hbR dX5_bestIn_38 ?_
          refine lv_iand hxR hbR dX5_bestIn_39 ?_
          refine lv_as (y := nI (nd S (L.getD i 0))) (nb_nd S (L.getD i 0)) ?_
          refine kVI (n := 1) (As := [.int (nI (nd S (L.getD i 0)))]) (rest := []) (fun w => w) hxR hbR hmlR hts hown hK hA hl.1 isCtx.id hI (c5_mostIn l E (nd S (L.getD i 0)) ad kp tr iv ia K R mv (nd S (L.getD i 0)) L hc (isL.of rfl hL) rfl (by first | omega | with_reducible assumption)) (lw_V q1694 q1696 qs42 q86 q1697) ⟨rfl, by decide +kernel⟩ 16 5 rfl rfl mW_o rfl (by omega) (Nat.le_of_ble_eq_true rfl) ⟨Nat.le_of_ble_eq_true rfl, Nat.le_of_ble_eq_true rfl⟩ (Nat.le_of_ble_eq_true rfl) dX5_bestIn_40 (fun r_40 u H locs hp hI hz => ?_)
          have hI : wI E AR sR H locs (mW E ad kp tr iv ia K R mv) := hI
          have hp : r_40 = nI (mostV L (nd S (L.getD i 0))) := hp
          have hr_40 := hp
          subst hr_40
          refine lv_iload_n hxR hbR dX5_bestIn_43 rfl (lv_at hl 2 rfl) ?_
          refine lv_iconst (v := 1) hxR hbR dX5_bestIn_44 (by decide) ?_
          refine lv_isub hxR hbR dX5_bestIn_45 ?_
          refine lv_icmp_ne (tgt := 56) hxR hbR dX5_bestIn_46 (by decide) (fun c_46 => ?_) (fun c_46 => ?_)
          · skip
            have c_46 : ¬ mostV L (nd S (L.getD i 0)) + 1 = mostV L S := fun h => c_46 ((eqm1 (by omega) (by omega)).mpr h)
            refine lv_iinc (v := nI (i + 1)) (lv' := [(3, .int (nI (i + 1))), (0, .ref (ad 45)), (1, .int (nI S)), (2, .int (nI (mostV L S)))]) hxR hbR dX5_bestIn_56 hl (k := 3) rfl (show nI i + 1 = nI (i + 1) from nI_add _ 1) (by decide) rfl (fun ls hl => ?_)
            refine lv_goto (tgt := 8) hxR hbR dX5_bestIn_59 (by decide) ?_
            exact ih_8 (i + 1) (by first | omega | with_reducible assumption) (by rw [← hf, dropD (i := i) (by omega), bestL]; first | rw [if_neg (fun q => c_26 q.1)] | rw [if_neg (fun q => c_46 q.2)]) (by omega) _ _ hI _ (lv_sub hl [1, 2, 3, 0] rfl)
          · skip
            have c_46 : mostV L (nd S (L.getD i 0)) + 1 = mostV L S := (eqm1 (by omega) (by omega)).mp c_46
            refine lv_aload_n hxR hbR dX5_bestIn_49 rfl (lv_at hl 0 rfl) ?_
            refine r_get hxR hbR hts hown hK hI okX5 (ci := 5) rfl 16 mW_o 29 (by decide) q1507 rfl (v := .ref (ad 29)) rfl dX5_bestIn_50 ?_
            refine lv_iload_n hxR hbR dX5_bestIn_53 rfl (lv_at hl 3 rfl) ?_
            refine r_iald hxR hbR hK hI 30 (n := 70) (J := i) (f := ia 29) (v := nI (L.getD i 0)) (mW_g29 rfl) (by omega) (by decide) (hL.at (by omega)) dX5_bestIn_54 ?_
            exact hret () (nI (L.getD i 0)) _ _ _ _ _ _ dX5_bestIn_55 hI (by show (nI (L.getD i 0)) = nI (bestL L S L); rw [← hf, dropD (i := i) (by omega), bestL, if_pos ⟨c_26, c_46⟩]) (Nat.le_of_ble_eq_true rfl) (Nat.le_of_ble_eq_true rfl) rfl
  exact lp_8 _ 0 (by first | omega | with_reducible assumption) rfl (Nat.lt_succ_self _) _ _ hI _ (lv_sub hl [2, 3, 1, 0] rfl)
