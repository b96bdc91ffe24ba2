def dDef : List Value := [.null, .null, .null, .null, .null, .int 0, .int 0]
def div0 : Nat → Int32 := (fun _ => 0)
theorem c3_init (l : Launch) (E : En) (o : Nat) : CtV l E yX3_init cX3_init 1 1 3 21 [.ref o] [(o, .inr (3, dDef))] (fun (u : Nat → Nat) => u 7 = o) (fun (u : Nat → Nat) => dW E u div0 (fun _ => 0) (fun _ => 0) (fun _ => 0) none none) := by
  refine CtV.of (by decide +kernel) (Nat.le_of_ble_eq_true rfl) ?_
  intro pR eR sR mR aR bR tR cR AR ls QR hxR hbR hmlR hts hown hlk hnm hA hK hI hl hret
  have hl : lv_has ls 1 [(0, .ref o)] := hl
  refine lv_aload_n hxR hbR dX3_init_0 rfl (lv_at hl 0 rfl) ?_
  refine W.objInit hxR hbR hown (hts _ q224) (hts _ q123) (hts _ q124) rfl (by rw [hmlR]; exact hl.1) rfl dX3_init_1 (Nat.le_of_ble_eq_true rfl) (Nat.le_of_ble_eq_true rfl) ?_
  refine W.eq (g2 := F0 mR 4 ls []) rfl ?_
  refine lv_aload_n hxR hbR dX3_init_4 rfl (lv_at hl 0 rfl) ?_
  refine lv_bipush (v := 7) hxR hbR dX3_init_5 (by decide) ?_
  refine r_newa (n := 7) (a0 := (7, .inl (fun _ => 0))) hxR hbR hts hA hK hI (atype := .int) rfl q181 0 rfl (fun h => h) (fun _ => rfl) (by decide) (Nat.le_of_ble_eq_true rfl) (Nat.le_of_ble_eq_true rfl) (Nat.le_of_ble_eq_true rfl) dX3_init_7 (fun a0 H hI => ?_)
  have hI : wI E AR sR H _ [(o, .inr (3, [.null, .null, .null, .null, .null, .int 0, .int 0])), (a0, .inl (E.2 0, 7, .inl (fun _ => 0)))] := hI
  refine r_putF (v := .ref a0) (ws1 := [(o, .inr (3, [.ref a0, .null, .null, .null, .null, .int 0, .int 0])), (a0, .inl (E.2 0, 7, .inl (fun _ => 0)))]) hxR hbR hts hown hK hI okX3 (ci := 3) rfl 0 rfl 0 (by decide) q225 rfl rfl hnm rfl rfl rfl (Nat.le_of_ble_eq_true rfl) rfl dX3_init_9 (fun H locs hI => ?_)
  refine lv_aload_n hxR hbR dX3_init_12 rfl (lv_at hl 0 rfl) ?_
  refine lv_bipush (v := 7) hxR hbR dX3_init_13 (by decide) ?_
  refine r_newa (n := 7) (a0 := (7, .inl (fun _ => 0))) hxR hbR hts hA hK hI (atype := .int) rfl q181 0 rfl (fun h => h) (fun _ => rfl) (by decide) (Nat.le_of_ble_eq_true rfl) (Nat.le_of_ble_eq_true rfl) (Nat.le_of_ble_eq_true rfl) dX3_init_15 (fun a1 H hI => ?_)
  have hI : wI E AR sR H _ [(o, .inr (3, [.ref a0, .null, .null, .null, .null, .int 0, .int 0])), (a0, .inl (E.2 0, 7, .inl (fun _ => 0))), (a1, .inl (E.2 0, 7, .inl (fun _ => 0)))] := hI
  refine r_putF (v := .ref a1) (ws1 := [(o, .inr (3, [.ref a0, .ref a1, .null, .null, .null, .int 0, .int 0])), (a0, .inl (E.2 0, 7, .inl (fun _ => 0))), (a1, .inl (E.2 0, 7, .inl (fun _ => 0)))]) hxR hbR hts hown hK hI okX3 (ci := 3) rfl 0 rfl 1 (by decide) q226 rfl rfl hnm rfl rfl rfl (Nat.le_of_ble_eq_true rfl) rfl dX3_init_17 (fun H locs hI => ?_)
  refine lv_aload_n hxR hbR dX3_init_20 rfl (lv_at hl 0 rfl) ?_
  refine lv_bipush (v := 7) hxR hbR dX3_init_21 (by decide) ?_
  refine r_newa (n := 7) (a0 := (7, .inl (fun _ => 0))) hxR hbR hts hA hK hI (atype := .int) rfl q181 0 rfl (fun h => h) (fun _ => rfl) (by decide) (Nat.le_of_ble_eq_true rfl) (Nat.le_of_ble_eq_true rfl) (Nat.le_of_ble_eq_true rfl) dX3_init_23 (fun a2 H hI => ?_)
  have hI : wI E AR sR H _ [(o, .inr (3, [.ref a0, .ref a1, .null, .null, .null, .int 0, .int 0])), (a0, .inl (E.2 0, 7, .inl (fun _ => 0))), (a1, .inl (E.2 0, 7, .inl (fun _ => 0))), (a2, .inl (E.2 0, 7, .inl (fun _ => 0)))] := hI
  refine r_putF (v := .ref a2) (ws1 := [(o, .inr (3, [.ref a0, .ref a1, .ref a2, .null, .null, .int 0, .int 0])), (a0, .inl (E.2 0, 7, .inl (fun _ => 0))), (a1, .inl (E.2 0, 7, .inl (fun _ => 0))), (a2, .inl (E.2 0, 7, .inl (fun _ => 0)))]) hxR hbR hts hown hK hI okX3 (ci := 3) rfl 0 rfl 2 (by decide) q228 rfl rfl hnm rfl rfl rfl (Nat.le_of_ble_eq_true rfl) rfl dX3_init_25 (fun H locs hI => ?_)
  have hI : wI E AR sR _ _ (dW E (fun k => match k with | 0 => a0 | 1 => a1 | 2 => a2 | 7 => o | _ => 0) (fun _ => 0) (fun _ => 0) (fun _ => 0) (fun _ => 0) none none) := hI
  exact hret (fun k => match k with | 0 => a0 | 1 => a1 | 2 => a2 | 7 => o | _ => 0) _ _ _ _ _ _ dX3_init_28 hI rfl (Nat.le_of_ble_eq_true rfl) (Nat.le_of_ble_eq_true rfl)

theorem c3_comes (l : Launch) (E : En) (ad : Nat → Nat) (iv : Nat → Int32) (od : Nat → Int32) (co : Nat → Int32) (wt : Nat → Int32) (gn : Option Nat) (adn : Nat → Nat) (ivn : Nat → Int32) (hrn : Nat → Int32) (csn : Nat → Int32) (K : Nat → Nat → Int32) (n : Nat) (hn : ivn 3 = nI n) (hn7 : n ≤ 7) : CtV l E yX3_comes cX3_comes 4 0 0 0 [.ref (ad 7)] (dW E ad iv od co wt (some (adn 10)) gn ++ (tW E adn ivn hrn csn (sK K))) (fun (u : Unit) => True) (fun (u : Unit) => dW E ad iv (wrL od 0 (comL hrn n)) co wt (some (adn 10)) gn ++ (tW E adn ivn hrn csn (sK K))) := by
  refine CtV.of (by decide +kernel) (Nat.le_of_ble_eq_true rfl) ?_
  intro pR eR sR mR aR bR tR cR AR ls QR hxR hbR hmlR hts hown hlk hnm hA hK hI hl hret
  have hl : lv_has ls 4 [(0, .ref (ad 7))] := hl
  refine lv_iconst (v := 0) hxR hbR dX3_comes_0 (by decide) ?_
  refine lv_istore_n (lv' := [(1, .int 0), (0, .ref (ad 7))]) hxR hbR dX3_comes_1 rfl hl (by decide) rfl (fun ls hl => ?_)
  refine lv_iconst (v := 0) hxR hbR dX3_comes_2 (by decide) ?_
  refine lv_istore_n (lv' := [(2, .int 0), (1, .int 0), (0, .ref (ad 7))]) hxR hbR dX3_comes_3 rfl hl (by decide) rfl (fun ls hl => ?_)
  have lp_4 : ∀ (fu : Nat) (h : Nat) (k : Nat) (g : Nat → Int32), (h ≤ 24) → (k = (comH hrn n h).length) → (g = wrL od 0 (comH hrn n h)) → 24 - h < fu → ∀ (H : Heap) (locs : List Loc), wI E AR sR H locs (dW E ad iv g co wt (some (adn 10)) gn ++ (tW E adn ivn hrn csn (sK K))) → ∀ ls : Array Slot, lv_has ls 4 [(0, .ref (ad 7)), (1, .int (nI k)), (2, .int (nI h))] → W pR l eR (rmF 0 0 0) sR mR aR bR tR cR H locs 0 0 QR (F0 mR 4 ls []) := by
    intro fu
    induction fu with
    | zero =>
      intro h k g hh hk hg hfu
      exact absurd hfu (Nat.not_lt_zero _)
    | succ fu ih_4 =>
      intro h k g hh hk hg hfu H locs hI ls hl
      refine lv_iload_n hxR hbR dX3_comes_4 rfl (lv_at hl 2 rfl) ?_
      refine lv_bipush (v := 24) hxR hbR dX3_comes_5 (by decide) ?_
      refine lv_icmp_ge (tgt := 58) hxR hbR dX3_comes_7 (by decide) (fun c_7 => ?_) (fun c_7 => ?_)
      · skip
        have c_7 : 24 ≤ h := (n_le (a := 24) (b := h) (by omega) (by omega)).mp c_7
        have hI : wI E AR sR H locs (dW E ad iv (wrL od 0 (comL hrn n)) co wt (some (adn 10)) gn ++ (tW E adn ivn hrn csn (sK K))) := by rw [show h = 24 by omega] at hg; rw [comL, ← hg]; exact hI
        exact hret () _ _ _ _ _ _ dX3_comes_58 hI (by show True; trivial) (Nat.le_of_ble_eq_true rfl) (Nat.le_of_ble_eq_true rfl)
      · skip
        have c_7 : h < 24 := Nat.lt_of_not_le (fun zz => c_7 ((n_le (a := 24) (b := h) (by omega) (by omega)).mpr zz))
        refine lv_iconst (v := 0) hxR hbR dX3_comes_10 (by decide) ?_
        refine lv_istore_n (lv' := [(3, .int 0), (0, .ref (ad 7)), (1, .int (nI k)), (2, .int (nI h))]) hxR hbR dX3_comes_11 rfl hl (by decide) rfl (fun ls hl => ?_)
        have lp_12 : ∀ (fu : Nat) (i : Nat) (k2 : Nat) (g2 : Nat → Int32), (i ≤ n) → (k2 = (comH hrn n h ++ comP hrn h i).length) → (g2 = wrL od 0 (comH hrn n h ++ comP hrn h i)) → n - i < fu → ∀ (H : Heap) (locs : List Loc), wI E AR sR H locs (dW E ad iv g2 co wt (some (adn 10)) gn ++ (tW E adn ivn hrn csn (sK K))) → ∀ ls : Array Slot, lv_has ls 4 [(0, .ref (ad 7)), (1, .int (nI k2)), (2, .int (nI h)), (3, .int (nI i))] → W pR l eR (rmF 0 0 0) sR mR aR bR tR cR H locs 0 0 QR (F0 mR 12 ls []) := by
          intro fu
          induction fu with
          | zero =>
            intro i k2 g2 hi hk2 hg2 hfu
            exact absurd hfu (Nat.not_lt_zero _)
          | succ fu ih_12 =>
            intro i k2 g2 hi hk2 hg2 hfu H locs hI ls hl
            refine lv_iload_n hxR hbR dX3_comes_12 rfl (lv_at hl 3 rfl) ?_
            refine lv_aload_n hxR hbR dX3_comes_13 rfl (lv_at hl 0 rfl) ?_
            refine r_get hxR hbR hts hown hK hI okX3 (ci := 3) rfl 0 (he_l dW_o) 3 (by decide) q230 rfl (v := .ref (adn 10)) rfl dX3_comes_14 ?_
            refine r_get hxR hbR hts hown hK hI okX1 (ci := 1) rfl (4 + 0) (he_r (Nat.le_of_ble_eq_true rfl) (Nat.le_of_ble_eq_true rfl) tW_o) 3 (by decide) q141 rfl (v := .int (nI n)) (al hn) dX3_comes_17 ?_
            refine lv_icmp_ge (tgt := 52) hxR hbR dX3_comes_20 (by decide) (fun c_20 => ?_) (fun c_20 => ?_)
            · skip
              have c_20 : n ≤ i := (n_le (a := n) (b := i) (by omega) (by omega)).mp c_20
              refine lv_iinc (v := nI (h + 1)) (lv' := [(2, .int (nI (h + 1))), (0, .ref (ad 7)), (1, .int (nI k2)), (3, .int (nI i))]) hxR hbR dX3_comes_52 hl (k := 2) rfl (show nI h + 1 = nI (h + 1) from nI_add _ 1) (by decide) rfl (fun ls hl => ?_)
              refine lv_goto (tgt := 4) hxR hbR dX3_comes_55 (by decide) ?_
              exact ih_4 (h + 1) k2 g2 (by first | omega | with_reducible assumption) (by rw [hk2, show i = n by omega]; rfl) (by rw [hg2, show i = n by omega]; rfl) (by omega) _ _ hI _ (lv_sub hl [1, 2, 0] rfl)
            · skip
              have c_20 : i < n := Nat.lt_of_not_le (fun zz => c_20 ((n_le (a := n) (b := i) (by omega) (by omega)).mpr zz))
              refine lv_aload_n hxR hbR dX3_comes_23 rfl (lv_at hl 0 rfl) ?_
              refine r_get hxR hbR hts hown hK hI okX3 (ci := 3) rfl 0 (he_l dW_o) 3 (by decide) q230 rfl (v := .ref (adn 10)) rfl dX3_comes_24 ?_
              refine r_get hxR hbR hts hown hK hI okX1 (ci := 1) rfl (4 + 0) (he_r (Nat.le_of_ble_eq_true rfl) (Nat.le_of_ble_eq_true rfl) tW_o) 0 (by decide) q132 rfl (v := .ref (adn 0)) rfl dX3_comes_27 ?_
              refine lv_iload_n hxR hbR dX3_comes_30 rfl (lv_at hl 3 rfl) ?_
              refine r_iald hxR hbR hK hI (4 + 1) (n := 7) (J := i) (f := hrn) (v := hrn i) (he_r (Nat.le_of_ble_eq_true rfl) (Nat.le_of_ble_eq_true rfl) (tW_g0 rfl)) (by omega) (by decide) rfl dX3_comes_31 ?_
              refine lv_iload_n hxR hbR dX3_comes_32 rfl (lv_at hl 2 rfl) ?_
              refine lv_icmp_ne (tgt := 46) hxR hbR dX3_comes_33 (by decide) (fun c_33 => ?_) (fun c_33 => ?_)
              · skip
                have i_33 : ¬ ((hrn i).toInt = (h : Int)) := by have zz := mt i_eq.mpr c_33; rw [nI_toInt (n := h) (by omega)] at zz; exact zz
                refine lv_iinc (v := nI (i + 1)) (lv' := [(3, .int (nI (i + 1))), (0, .ref (ad 7)), (1, .int (nI k2)), (2, .int (nI h))]) hxR hbR dX3_comes_46 hl (k := 3) rfl (show nI i + 1 = nI (i + 1) from nI_add _ 1) (by decide) rfl (fun ls hl => ?_)
                refine lv_goto (tgt := 12) hxR hbR dX3_comes_49 (by decide) ?_
                exact ih_12 (i + 1) k2 g2 (by first | omega | with_reducible assumption) (by first | (rw [com_n c_33]; exact hk2) | (rw [com_y c_33, List.length_append, ← hk2]; rfl)) (by first | (rw [com_n c_33]; exact hg2) | (rw [com_y c_33, ← wrL_push, ← hk2, ← hg2])) (by omega) _ _ hI _ (lv_sub hl [1, 2, 3, 0] rfl)
              · skip
                have i_33 : (hrn i).toInt = (h : Int) := by have zz := i_eq.mp c_33; rw [nI_toInt (n := h) (by omega)] at zz; exact zz
                have hcl := com_lt (hour := hrn) (n := n) (h := h) (p := i) c_20 (by omega) c_33
                refine lv_aload_n hxR hbR dX3_comes_36 rfl (lv_at hl 0 rfl) ?_
                refine r_get hxR hbR hts hown hK hI okX3 (ci := 3) rfl 0 (he_l dW_o) 0 (by decide) q225 rfl (v := .ref (ad 0)) rfl dX3_comes_37 ?_
                refine lv_iload_n hxR hbR dX3_comes_40 rfl (lv_at hl 1 rfl) ?_
                refine lv_iload_n hxR hbR dX3_comes_41 rfl (lv_at hl 3 rfl) ?_
                refine r_iast (ws1 := dW E ad iv (va_up g2 k2 (nI i)) co wt (some (adn 10)) gn ++ (tW E adn ivn hrn csn (sK K))) hxR hbR hK hI 1 (n := 7) (J := k2) (f := g2) (he_l (dW_g0 rfl)) (by omega) (by decide) (hw_l (Nat.le_of_ble_eq_true rfl) dW_a0) dX3_comes_42 (fun H locs hI => ?_)
                refine lv_iinc (v := nI (k2 + 1)) (lv' := [(1, .int (nI (k2 + 1))), (0, .ref (ad 7)), (2, .int (nI h)), (3, .int (nI i))]) hxR hbR dX3_comes_43 hl (k := 1) rfl (show nI k2 + 1 = nI (k2 + 1) from nI_add _ 1) (by decide) rfl (fun ls hl => ?_)
                refine lv_iinc (v := nI (i + 1)) (lv' := [(3, .int (nI (i + 1))), (1, .int (nI (k2 + 1))), (0, .ref (ad 7)), (2, .int (nI h))]) hxR hbR dX3_comes_46 hl (k := 3) rfl (show nI i + 1 = nI (i + 1) from nI_add _ 1) (by decide) rfl (fun ls hl => ?_)
                refine lv_goto (tgt := 12) hxR hbR dX3_comes_49 (by decide) ?_
                exact ih_12 (i + 1) (k2 + 1) (va_up g2 k2 (nI i)) (by first | omega | with_reducible assumption) (by first | (rw [com_n c_33]; exact hk2) | (rw [com_y c_33, List.length_append, ← hk2]; rfl)) (by first | (rw [com_n c_33]; exact hg2) | (rw [com_y c_33, ← wrL_push, ← hk2, ← hg2])) (by omega) _ _ hI _ (lv_sub hl [2, 1, 3, 0] rfl)
        exact lp_12 _ 0 k g (by first | omega | with_reducible assumption) (by rw [hk, comP, List.append_nil]) (by rw [hg, comP, List.append_nil]) (Nat.lt_succ_self _) _ _ hI _ (lv_sub hl [1, 2, 3, 0] rfl)
  exact lp_4 _ 0 0 od (by first | omega | with_reducible assumption) rfl (wrL_nil _ _).symm (Nat.lt_succ_self _) _ _ hI _ (lv_sub hl [2, 1, 0] rfl)

theorem c3_comes_2 (l : Launch) (E : En) (ad : Nat → Nat) (iv : Nat → Int32) (od : Nat → Int32) (co : Nat → Int32) (wt : Nat → Int32) (tn : Option Nat) (gn : Option Nat) (adn : Nat → Nat) (ivn : Nat → Int32) (hrn : Nat → Int32) (csn : Nat → Int32) (K : Nat → Nat → Int32) (n : Nat) (hn : ivn 3 = nI n) (hn7 : n ≤ 7) : CtT l E yX3_comes_2 cX3_comes_2 2 (Jvm.ClassFile.FieldType.array Jvm.ClassFile.FieldType.int) 1 0 0 [.ref (ad 7), .ref (adn 10)] (dW E ad iv od co wt tn gn ++ (tW E adn ivn hrn csn (sK K))) (fun (u : Unit) => True) (fun (u : Unit) => dW E ad iv (wrL od 0 (comL hrn n)) co wt (some (adn 10)) gn ++ (tW E adn ivn hrn csn (sK K))) (fun (u : Unit) => ad 0) := by
  refine CtT.of (by decide +kernel) (Nat.le_of_ble_eq_true rfl) (by first | exact Or.inl ⟨_, rfl⟩ | exact Or.inr ⟨_, rfl⟩) ?_
  intro pR eR sR mR aR bR tR cR AR ls QR hxR hbR hmlR hts hown hlk hnm hA hK hI hl hret
  have hl : lv_has ls 2 [(0, .ref (ad 7)), (1, .ref (adn 10))] := hl
  refine lv_aload_n hxR hbR dX3_comes_2_0 rfl (lv_at hl 0 rfl) ?_
  refine lv_aload_n hxR hbR dX3_comes_2_1 rfl (lv_at hl 1 rfl) ?_
  refine r_put (v := .ref (adn 10)) (ws1 := dW E ad iv od co wt (some (adn 10)) gn ++ (tW E adn ivn hrn csn (sK K))) hxR hbR hts hown hK hI okX3 (ci := 3) rfl 0 (he_l dW_o) 3 (by decide) q230 rfl rfl rfl rfl (Nat.le_of_ble_eq_true rfl) (hw_l (Nat.le_of_ble_eq_true rfl) dW_r3) dX3_comes_2_2 (fun H locs hI => ?_)
  refine lv_aload_n hxR hbR dX3_comes_2_5 rfl (lv_at hl 0 rfl) ?_
  refine kVV (n := 0) (As := []) (rest := []) (fun w => w) hxR hbR hmlR hts hown hK hA hl.1 isCtx.id hI (c3_comes l E ad iv od co wt gn adn ivn hrn csn K n hn (by first | omega | with_reducible assumption)) (lw_V q1232 q1234 qs20 q84 q1235) ⟨rfl, by decide +kernel⟩ 0 3 rfl rfl (he_l dW_o) rfl (Nat.le_of_ble_eq_true rfl) (Nat.le_of_ble_eq_true rfl) ⟨Nat.le_of_ble_eq_true rfl, Nat.le_of_ble_eq_true rfl⟩ (Nat.le_of_ble_eq_true rfl) dX3_comes_2_6 (fun u H locs hp hI hz => ?_)
  have hI : wI E AR sR H locs (dW E ad iv (wrL od 0 (comL hrn n)) co wt (some (adn 10)) gn ++ (tW E adn ivn hrn csn (sK K))) := hI
  refine lv_aload_n hxR hbR dX3_comes_2_9 rfl (lv_at hl 0 rfl) ?_
  refine r_get hxR hbR hts hown hK hI okX3 (ci := 3) rfl 0 (he_l dW_o) 0 (by decide) q225 rfl (v := .ref (ad 0)) rfl dX3_comes_2_10 ?_
  exact hret () _ _ _ _ _ _ dX3_comes_2_13 hI trivial (Nat.le_of_ble_eq_true rfl) (Nat.le_of_ble_eq_true rfl)

theorem c3_leaves (l : Launch) (E : En) (ad : Nat → Nat) (iv : Nat → Int32) (od : Nat → Int32) (co : Nat → Int32) (wt : Nat → Int32) (gn : Option Nat) (adn : Nat → Nat) (ivn : Nat → Int32) (hrn : Nat → Int32) (csn : Nat → Int32) (K : Nat → Nat → Int32) (n Z : Nat) (y : Int32) (hn : ivn 3 = nI n) (hn7 : n ≤ 7) (hZ : Z < 2 ^ 31) : CtV l E yX3_leaves cX3_leaves 4 1 0 0 [.ref (ad 7), .int (nI Z), .int y] (dW E ad iv od co wt (some (adn 10)) gn ++ (tW E adn ivn hrn csn (sK K))) (fun (u : Unit) => True) (fun (u : Unit) => dW E ad iv od co (leaveW csn hrn y Z n wt) (some (adn 10)) gn ++ (tW E adn ivn hrn csn (sK K))) := by
  refine CtV.of (by decide +kernel) (Nat.le_of_ble_eq_true rfl) ?_
  intro pR eR sR mR aR bR tR cR AR ls QR hxR hbR hmlR hts hown hlk hnm hA hK hI hl hret
  have hl : lv_has ls 4 [(0, .ref (ad 7)), (1, .int (nI Z)), (2, .int y)] := hl
  refine lv_iconst (v := 0) hxR hbR dX3_leaves_0 (by decide) ?_
  refine lv_istore_n (lv' := [(3, .int 0), (0, .ref (ad 7)), (1, .int (nI Z)), (2, .int y)]) hxR hbR dX3_leaves_1 rfl hl (by decide) rfl (fun ls hl => ?_)
  have lp_2 : ∀ (fu : Nat) (i : Nat) (wv : Nat → Int32), (i ≤ n) → (wv = leaveW csn hrn y Z i wt) → n - i < fu → ∀ (H : Heap) (locs : List Loc), wI E AR sR H locs (dW E ad iv od co wv (some (adn 10)) gn ++ (tW E adn ivn hrn csn (sK K))) → ∀ ls : Array Slot, lv_has ls 4 [(0, .ref (ad 7)), (1, .int (nI Z)), (2, .int y), (3, .int (nI i))] → W pR l eR (rmF 1 0 0) sR mR aR bR tR cR H locs 0 0 QR (F0 mR 2 ls []) := by
    intro fu
    induction fu with
    | zero =>
      intro i wv hi hw hfu
      exact absurd hfu (Nat.not_lt_zero _)
    | succ fu ih_2 =>
      intro i wv hi hw hfu H locs hI ls hl
      refine lv_iload_n hxR hbR dX3_leaves_2 rfl (lv_at hl 3 rfl) ?_
      refine lv_aload_n hxR hbR dX3_leaves_3 rfl (lv_at hl 0 rfl) ?_
      refine r_get hxR hbR hts hown hK hI okX3 (ci := 3) rfl 0 (he_l dW_o) 3 (by decide) q230 rfl (v := .ref (adn 10)) rfl dX3_leaves_4 ?_
      refine r_get hxR hbR hts hown hK hI okX1 (ci := 1) rfl (4 + 0) (he_r (Nat.le_of_ble_eq_true rfl) (Nat.le_of_ble_eq_true rfl) tW_o) 3 (by decide) q141 rfl (v := .int (nI n)) (al hn) dX3_leaves_7 ?_
      refine lv_icmp_ge (tgt := 63) hxR hbR dX3_leaves_10 (by decide) (fun c_10 => ?_) (fun c_10 => ?_)
      · skip
        have c_10 : n ≤ i := (n_le (a := n) (b := i) (by omega) (by omega)).mp c_10
        have hI : wI E AR sR H locs (dW E ad iv od co (leaveW csn hrn y Z n wt) (some (adn 10)) gn ++ (tW E adn ivn hrn csn (sK K))) := by rw [show n = i by omega, ← hw]; exact hI
        exact hret () _ _ _ _ _ _ dX3_leaves_63 hI (by show True; trivial) (Nat.le_of_ble_eq_true rfl) (Nat.le_of_ble_eq_true rfl)
      · skip
        have c_10 : i < n := Nat.lt_of_not_le (fun zz => c_10 ((n_le (a := n) (b := i) (by omega) (by omega)).mpr zz))
        refine lv_aload_n hxR hbR dX3_leaves_13 rfl (lv_at hl 0 rfl) ?_
        refine r_get hxR hbR hts hown hK hI okX3 (ci := 3) rfl 0 (he_l dW_o) 2 (by decide) q228 rfl (v := .ref (ad 2)) rfl dX3_leaves_14 ?_
        refine lv_iload_n hxR hbR dX3_leaves_17 rfl (lv_at hl 3 rfl) ?_
        refine lv_iload_n hxR hbR dX3_leaves_18 rfl (lv_at hl 1 rfl) ?_
        refine lv_iload_n hxR hbR dX3_leaves_19 rfl (lv_at hl 3 rfl) ?_
        refine kSNI (n := 2) (As := [.int (nI Z), .int (nI i)]) (rest := [.int (nI i), .ref (ad 2)]) (fun w => w ++ (dW E ad iv od co wv (some (adn 10)) gn ++ (tW E adn ivn hrn csn (sK K)))) hxR hbR hmlR hts hown hK hA hl.1 (isCtx.suf _) hI (c0_has l E  Z i (by first | omega | with_reducible assumption) (by first | omega | with_reducible assumption)) (host := RX0) q661 q81 (by decide) q660 (by decide +kernel) rfl (Nat.le_of_ble_eq_true rfl) (Nat.le_of_ble_eq_true rfl) ⟨Nat.le_of_ble_eq_true rfl, Nat.le_of_ble_eq_true rfl⟩ (Nat.le_of_ble_eq_true rfl) dX3_leaves_20 (fun r_20 u H locs hp hI hz => ?_)
        have hI : wI E AR sR H locs (dW E ad iv od co wv (some (adn 10)) gn ++ (tW E adn ivn hrn csn (sK K))) := hI
        have hp : r_20 = b2i (Z.testBit i) := hp
        have hr_20 := hp
        rcases b2i_cases hr_20 with ⟨c_20, rfl⟩ | ⟨c_20, rfl⟩
        · skip
          have c_20 : Z.testBit i = true := c_20
          refine lv_if_eq (tgt := 50) hxR hbR dX3_leaves_23 (by decide) (fun c => absurd c (by decide)) (fun _ => ?_)
          refine lv_aload_n hxR hbR dX3_leaves_26 rfl (lv_at hl 0 rfl) ?_
          refine r_get hxR hbR hts hown hK hI okX3 (ci := 3) rfl 0 (he_l dW_o) 3 (by decide) q230 rfl (v := .ref (adn 10)) rfl dX3_leaves_27 ?_
          refine r_get hxR hbR hts hown hK hI okX1 (ci := 1) rfl (4 + 0) (he_r (Nat.le_of_ble_eq_true rfl) (Nat.le_of_ble_eq_true rfl) tW_o) 1 (by decide) q135 rfl (v := .ref (adn 1)) rfl dX3_leaves_30 ?_
          refine lv_iload_n hxR hbR dX3_leaves_33 rfl (lv_at hl 3 rfl) ?_
          refine r_iald hxR hbR hK hI (4 + 2) (n := 7) (J := i) (f := csn) (v := csn i) (he_r (Nat.le_of_ble_eq_true rfl) (Nat.le_of_ble_eq_true rfl) (tW_g1 rfl)) (by omega) (by decide) rfl dX3_leaves_34 ?_
          refine lv_iload_n hxR hbR dX3_leaves_35 rfl (lv_at hl 2 rfl) ?_
          refine lv_aload_n hxR hbR dX3_leaves_36 rfl (lv_at hl 0 rfl) ?_
          refine r_get hxR hbR hts hown hK hI okX3 (ci := 3) rfl 0 (he_l dW_o) 3 (by decide) q230 rfl (v := .ref (adn 10)) rfl dX3_leaves_37 ?_
          refine r_get hxR hbR hts hown hK hI okX1 (ci := 1) rfl (4 + 0) (he_r (Nat.le_of_ble_eq_true rfl) (Nat.le_of_ble_eq_true rfl) tW_o) 0 (by decide) q132 rfl (v := .ref (adn 0)) rfl dX3_leaves_40 ?_
          refine lv_iload_n hxR hbR dX3_leaves_43 rfl (lv_at hl 3 rfl) ?_
          refine r_iald hxR hbR hK hI (4 + 1) (n := 7) (J := i) (f := hrn) (v := hrn i) (he_r (Nat.le_of_ble_eq_true rfl) (Nat.le_of_ble_eq_true rfl) (tW_g0 rfl)) (by omega) (by decide) rfl dX3_leaves_44 ?_
          refine lv_isub hxR hbR dX3_leaves_45 ?_
          refine lv_imul hxR hbR dX3_leaves_46 ?_
          refine lv_goto (tgt := 56) hxR hbR dX3_leaves_47 (by decide) ?_
          refine r_iast (ws1 := dW E ad iv od co (va_up wv i ((csn i) * (y - (hrn i)))) (some (adn 10)) gn ++ (tW E adn ivn hrn csn (sK K))) hxR hbR hK hI 3 (n := 7) (J := i) (f := wv) (he_l (dW_g2 rfl)) (by omega) (by decide) (hw_l (Nat.le_of_ble_eq_true rfl) dW_a2) dX3_leaves_56 (fun H locs hI => ?_)
          refine lv_iinc (v := nI (i + 1)) (lv' := [(3, .int (nI (i + 1))), (0, .ref (ad 7)), (1, .int (nI Z)), (2, .int y)]) hxR hbR dX3_leaves_57 hl (k := 3) rfl (show nI i + 1 = nI (i + 1) from nI_add _ 1) (by decide) rfl (fun ls hl => ?_)
          refine lv_goto (tgt := 2) hxR hbR dX3_leaves_60 (by decide) ?_
          exact ih_2 (i + 1) (va_up wv i ((csn i) * (y - (hrn i)))) (by first | omega | with_reducible assumption) (by rw [hw]; first | exact leaveW_y c_20 | exact leaveW_n c_20) (by omega) _ _ hI _ (lv_sub hl [1, 2, 3, 0] rfl)
        · skip
          have c_20 : Z.testBit i = false := c_20
          refine lv_if_eq (tgt := 50) hxR hbR dX3_leaves_23 (by decide) (fun _ => ?_) (fun c => absurd c (by decide))
          refine lv_aload_n hxR hbR dX3_leaves_50 rfl (lv_at hl 0 rfl) ?_
          refine r_get hxR hbR hts hown hK hI okX3 (ci := 3) rfl 0 (he_l dW_o) 2 (by decide) q228 rfl (v := .ref (ad 2)) rfl dX3_leaves_51 ?_
          refine lv_iload_n hxR hbR dX3_leaves_54 rfl (lv_at hl 3 rfl) ?_
          refine r_iald hxR hbR hK hI 3 (n := 7) (J := i) (f := wv) (v := wv i) (he_l (dW_g2 rfl)) (by omega) (by decide) rfl dX3_leaves_55 ?_
          refine r_iast (ws1 := dW E ad iv od co (va_up wv i (wv i)) (some (adn 10)) gn ++ (tW E adn ivn hrn csn (sK K))) hxR hbR hK hI 3 (n := 7) (J := i) (f := wv) (he_l (dW_g2 rfl)) (by omega) (by decide) (hw_l (Nat.le_of_ble_eq_true rfl) dW_a2) dX3_leaves_56 (fun H locs hI => ?_)
          refine lv_iinc (v := nI (i + 1)) (lv' := [(3, .int (nI (i + 1))), (0, .ref (ad 7)), (1, .int (nI Z)), (2, .int y)]) hxR hbR dX3_leaves_57 hl (k := 3) rfl (show nI i + 1 = nI (i + 1) from nI_add _ 1) (by decide) rfl (fun ls hl => ?_)
          refine lv_goto (tgt := 2) hxR hbR dX3_leaves_60 (by decide) ?_
          exact ih_2 (i + 1) (va_up wv i (wv i)) (by first | omega | with_reducible assumption) (by rw [hw]; first | exact leaveW_y c_20 | exact leaveW_n c_20) (by omega) _ _ hI _ (lv_sub hl [1, 2, 3, 0] rfl)
  exact lp_2 _ 0 wt (by first | omega | with_reducible assumption) (leaveW_0 _ _ _ _ _).symm (Nat.lt_succ_self _) _ _ hI _ (lv_sub hl [1, 2, 3, 0] rfl)

theorem c3_waiting (l : Launch) (E : En) (ad : Nat → Nat) (iv : Nat → Int32) (od : Nat → Int32) (co : Nat → Int32) (wt : Nat → Int32) (gn : Option Nat) (adn : Nat → Nat) (ivn : Nat → Int32) (hrn : Nat → Int32) (csn : Nat → Int32) (K : Nat → Nat → Int32) (n : Nat) (hn : ivn 3 = nI n) (hn7 : n ≤ 7) : CtI l E yX3_waiting cX3_waiting 3 .int 0 0 0 [.ref (ad 7)] (dW E ad iv od co wt (some (adn 10)) gn ++ (tW E adn ivn hrn csn (sK K))) (fun (r : Int32) (u : Unit) => r = sumA wt n) (fun (u : Unit) => dW E ad iv od co wt (some (adn 10)) gn ++ (tW E adn ivn hrn csn (sK K))) := by
  refine CtI.of (by decide +kernel) (Nat.le_of_ble_eq_true rfl) ?_
  intro pR eR sR mR aR bR tR cR AR ls QR hxR hbR hmlR hts hown hlk hnm hA hK hI hl hret
  have hl : lv_has ls 3 [(0, .ref (ad 7))] := hl
  refine lv_iconst (v := 0) hxR hbR dX3_waiting_0 (by decide) ?_
  refine lv_istore_n (lv' := [(1, .int 0), (0, .ref (ad 7))]) hxR hbR dX3_waiting_1 rfl hl (by decide) rfl (fun ls hl => ?_)
  refine lv_iconst (v := 0) hxR hbR dX3_waiting_2 (by decide) ?_
  refine lv_istore_n (lv' := [(2, .int 0), (1, .int 0), (0, .ref (ad 7))]) hxR hbR dX3_waiting_3 rfl hl (by decide) rfl (fun ls hl => ?_)
  have lp_4 : ∀ (fu : Nat) (i : Nat) (a : Int32), (i ≤ n) → (a = sumA wt i) → n - i < fu → ∀ (H : Heap) (locs : List Loc), wI E AR sR H locs (dW E ad iv od co wt (some (adn 10)) gn ++ (tW E adn ivn hrn csn (sK K))) → ∀ ls : Array Slot, lv_has ls 3 [(0, .ref (ad 7)), (1, .int a), (2, .int (nI i))] → W pR l eR (rmF 0 0 0) sR mR aR bR tR cR H locs 0 0 QR (F0 mR 4 ls []) := by
    intro fu
    induction fu with
    | zero =>
      intro i a hi ha hfu
      exact absurd hfu (Nat.not_lt_zero _)
    | succ fu ih_4 =>
      intro i a hi ha hfu H locs hI ls hl
      refine lv_iload_n hxR hbR dX3_waiting_4 rfl (lv_at hl 2 rfl) ?_
      refine lv_aload_n hxR hbR dX3_waiting_5 rfl (lv_at hl 0 rfl) ?_
      refine r_get hxR hbR hts hown hK hI okX3 (ci := 3) rfl 0 (he_l dW_o) 3 (by decide) q230 rfl (v := .ref (adn 10)) rfl dX3_waiting_6 ?_
      refine r_get hxR hbR hts hown hK hI okX1 (ci := 1) rfl (4 + 0) (he_r (Nat.le_of_ble_eq_true rfl) (Nat.le_of_ble_eq_true rfl) tW_o) 3 (by decide) q141 rfl (v := .int (nI n)) (al hn) dX3_waiting_9 ?_
      refine lv_icmp_ge (tgt := 30) hxR hbR dX3_waiting_12 (by decide) (fun c_12 => ?_) (fun c_12 => ?_)
      · skip
        have c_12 : n ≤ i := (n_le (a := n) (b := i) (by omega) (by omega)).mp c_12
        refine lv_iload_n hxR hbR dX3_waiting_30 rfl (lv_at hl 1 rfl) ?_
        exact hret () a _ _ _ _ _ _ dX3_waiting_31 hI (by show a = sumA wt n; rw [ha, show i = n by omega]) (Nat.le_of_ble_eq_true rfl) (Nat.le_of_ble_eq_true rfl) rfl
      · skip
        have c_12 : i < n := Nat.lt_of_not_le (fun zz => c_12 ((n_le (a := n) (b := i) (by omega) (by omega)).mpr zz))
        refine lv_iload_n hxR hbR dX3_waiting_15 rfl (lv_at hl 1 rfl) ?_
        refine lv_aload_n hxR hbR dX3_waiting_16 rfl (lv_at hl 0 rfl) ?_
        refine r_get hxR hbR hts hown hK hI okX3 (ci := 3) rfl 0 (he_l dW_o) 2 (by decide) q228 rfl (v := .ref (ad 2)) rfl dX3_waiting_17 ?_
        refine lv_iload_n hxR hbR dX3_waiting_20 rfl (lv_at hl 2 rfl) ?_
        refine r_iald hxR hbR hK hI 3 (n := 7) (J := i) (f := wt) (v := wt i) (he_l (dW_g2 rfl)) (by omega) (by decide) rfl dX3_waiting_21 ?_
        refine lv_iadd hxR hbR dX3_waiting_22 ?_
        refine lv_istore_n (lv' := [(1, .int (a + (wt i))), (0, .ref (ad 7)), (2, .int (nI i))]) hxR hbR dX3_waiting_23 rfl hl (by decide) rfl (fun ls hl => ?_)
        refine lv_iinc (v := nI (i + 1)) (lv' := [(2, .int (nI (i + 1))), (1, .int (a + (wt i))), (0, .ref (ad 7))]) hxR hbR dX3_waiting_24 hl (k := 2) rfl (show nI i + 1 = nI (i + 1) from nI_add _ 1) (by decide) rfl (fun ls hl => ?_)
        refine lv_goto (tgt := 4) hxR hbR dX3_waiting_27 (by decide) ?_
        exact ih_4 (i + 1) (a + (wt i)) (by first | omega | with_reducible assumption) (by rw [ha]; rfl) (by omega) _ _ hI _ (lv_sub hl [2, 1, 0] rfl)
  exact lp_4 _ 0 0 (by first | omega | with_reducible assumption) rfl (Nat.lt_succ_self _) _ _ hI _ (lv_sub hl [2, 1, 0] rfl)

theorem c3_meets (l : Launch) (E : En) (ad : Nat → Nat) (iv : Nat → Int32) (od : Nat → Int32) (co : Nat → Int32) (wt : Nat → Int32) (tn : Option Nat) (gn : Option Nat) (adn : Nat → Nat) (ivn : Nat → Int32) (hrn : Nat → Int32) (csn : Nat → Int32) (K : Nat → Nat → Int32) (L : List Nat) (n : Nat) (hc : iv 5 = nI L.length) (hn : ivn 3 = nI n) (hn7 : n ≤ 7) (hL7 : L.length ≤ 7) (hL : (∀ i, i < L.length → L.getD i 0 < 2 ^ 31 ∧ co i = nI (L.getD i 0))) : CtV l E yX3_meets cX3_meets 3 3 0 0 [.ref (ad 7), .ref (adn 10)] (dW E ad iv od co wt tn gn ++ (tW E adn ivn hrn csn (sK K))) (fun (u : Unit) => True) (fun (u : Unit) => dW E ad iv od co wt tn gn ++ (tW E adn ivn hrn csn (sK (meetsK n K L)))) := by
  refine CtV.of (by decide +kernel) (Nat.le_of_ble_eq_true rfl) ?_
  intro pR eR sR mR aR bR tR cR AR ls QR hxR hbR hmlR hts hown hlk hnm hA hK hI hl hret
  have hl : lv_has ls 3 [(0, .ref (ad 7)), (1, .ref (adn 10))] := hl
  refine lv_iconst (v := 0) hxR hbR dX3_meets_0 (by decide) ?_
  refine lv_istore_n (lv' := [(2, .int 0), (0, .ref (ad 7)), (1, .ref (adn 10))]) hxR hbR dX3_meets_1 rfl hl (by decide) rfl (fun ls hl => ?_)
  have lp_2 : ∀ (fu : Nat) (i : Nat) (Sx : Nat → Int32), (i ≤ L.length) → (Sx = sK (meetsK n K (L.take i))) → L.length - i < fu → ∀ (H : Heap) (locs : List Loc), wI E AR sR H locs (dW E ad iv od co wt tn gn ++ (tW E adn ivn hrn csn Sx)) → ∀ ls : Array Slot, lv_has ls 3 [(0, .ref (ad 7)), (1, .ref (adn 10)), (2, .int (nI i))] → W pR l eR (rmF 3 0 0) sR mR aR bR tR cR H locs 0 0 QR (F0 mR 2 ls []) := by
    intro fu
    induction fu with
    | zero =>
      intro i Sx hi hX hfu
      exact absurd hfu (Nat.not_lt_zero _)
    | succ fu ih_2 =>
      intro i Sx hi hX hfu H locs hI ls hl
      subst hX
      refine lv_iload_n hxR hbR dX3_meets_2 rfl (lv_at hl 2 rfl) ?_
      refine lv_aload_n hxR hbR dX3_meets_3 rfl (lv_at hl 0 rfl) ?_
      refine r_get hxR hbR hts hown hK hI okX3 (ci := 3) rfl 0 (he_l dW_o) 5 (by decide) q232 rfl (v := .int (nI L.length)) (al hc) dX3_meets_4 ?_
      refine lv_icmp_ge (tgt := 27) hxR hbR dX3_meets_7 (by decide) (fun c_7 => ?_) (fun c_7 => ?_)
      · skip
        have c_7 : L.length ≤ i := (n_le (a := L.length) (b := i) (by omega) (by omega)).mp c_7
        have hI : wI E AR sR H locs (dW E ad iv od co wt tn gn ++ (tW E adn ivn hrn csn (sK (meetsK n K L)))) := by rw [show i = L.length by omega, List.take_length] at hI; exact hI
        exact hret () _ _ _ _ _ _ dX3_meets_27 hI (by show True; trivial) (Nat.le_of_ble_eq_true rfl) (Nat.le_of_ble_eq_true rfl)
      · skip
        have c_7 : i < L.length := Nat.lt_of_not_le (fun zz => c_7 ((n_le (a := L.length) (b := i) (by omega) (by omega)).mpr zz))
        refine lv_aload_n hxR hbR dX3_meets_10 rfl (lv_at hl 1 rfl) ?_
        refine lv_aload_n hxR hbR dX3_meets_11 rfl (lv_at hl 0 rfl) ?_
        refine r_get hxR hbR hts hown hK hI okX3 (ci := 3) rfl 0 (he_l dW_o) 1 (by decide) q226 rfl (v := .ref (ad 1)) rfl dX3_meets_12 ?_
        refine lv_iload_n hxR hbR dX3_meets_15 rfl (lv_at hl 2 rfl) ?_
        refine r_iald hxR hbR hK hI 2 (n := 7) (J := i) (f := co) (v := nI (L.getD i 0)) (he_l (dW_g1 rfl)) (by omega) (by decide) (hL _ (by omega)).2 dX3_meets_16 ?_
        refine kVI (n := 1) (As := [.int (nI (L.getD i 0))]) (rest := []) (fun w => (dW E ad iv od co wt tn gn) ++ w) hxR hbR hmlR hts hown hK hA hl.1 (isCtx.pre _) hI (c1_meets l E adn ivn hrn csn (meetsK n K (L.take i)) n (L.getD i 0) hn (by first | omega | with_reducible assumption) (hL _ (by omega)).1) (lw_V q1293 q1150 q1151 q82 q1152) ⟨rfl, by decide +kernel⟩ 0 1 rfl rfl tW_o rfl (Nat.le_of_ble_eq_true rfl) (Nat.le_of_ble_eq_true rfl) ⟨Nat.le_of_ble_eq_true rfl, Nat.le_of_ble_eq_true rfl⟩ (Nat.le_of_ble_eq_true rfl) dX3_meets_17 (fun r_17 u H locs hp hI hz => ?_)
        have hI : wI E AR sR H locs (dW E ad iv od co wt tn gn ++ (tW E adn ivn hrn csn (sK (meetK (meetsK n K (L.take i)) (L.getD i 0) n)))) := hI
        have hp : r_17 = nI (mC (meetsK n K (L.take i)) (L.getD i 0) n) := hp
        have hr_17 := hp
        subst hr_17
        refine lv_pop hxR hbR dX3_meets_20 rfl ?_
        refine lv_iinc (v := nI (i + 1)) (lv' := [(2, .int (nI (i + 1))), (0, .ref (ad 7)), (1, .ref (adn 10))]) hxR hbR dX3_meets_21 hl (k := 2) rfl (show nI i + 1 = nI (i + 1) from nI_add _ 1) (by decide) rfl (fun ls hl => ?_)
        refine lv_goto (tgt := 2) hxR hbR dX3_meets_24 (by decide) ?_
        exact ih_2 (i + 1) (sK (meetK (meetsK n K (L.take i)) (L.getD i 0) n)) (by first | omega | with_reducible assumption) (by rw [meetsK_s (by omega)]) (by omega) _ _ hI _ (lv_sub hl [1, 2, 0] rfl)
  exact lp_2 _ 0 (sK K) (by first | omega | with_reducible assumption) rfl (Nat.lt_succ_self _) _ _ hI _ (lv_sub hl [1, 2, 0] rfl)
