def gDef : List Value := [.null, .null, .null, .null, .null, .int 0, .int 0, .int 0]
def giv0 : Nat → Int32 := (fun _ => 0)
theorem c2_init (l : Launch) (E : En) (o : Nat) : CtV l E yX2_init cX2_init 1 1 4 205 [.ref o] [(o, .inr (2, gDef))] (fun (u : Nat → Nat) => u 8 = o) (fun (u : Nat → Nat) => gW E u giv0 (fun _ => 0) (fun _ => 0) (fun _ => 0) (fun _ => 0) none) := by
  refine CtV.of (by decide +kernel) (Nat.le_of_ble_eq_true rfl) ?_
  intro pR eR sR mR aR bR tR cR AR ls QR hxR hbR hmlR hts hown hlk hnm hA hK hI hl hret
  have hl : lv_has ls 1 [(0, .ref o)] := hl
  refine lv_aload_n hxR hbR dX2_init_0 rfl (lv_at hl 0 rfl) ?_
  refine W.objInit hxR hbR hown (hts _ q187) (hts _ q123) (hts _ q124) rfl (by rw [hmlR]; exact hl.1) rfl dX2_init_1 (Nat.le_of_ble_eq_true rfl) (Nat.le_of_ble_eq_true rfl) ?_
  refine W.eq (g2 := F0 mR 4 ls []) rfl ?_
  refine lv_aload_n hxR hbR dX2_init_4 rfl (lv_at hl 0 rfl) ?_
  refine lv_bipush (v := 35) hxR hbR dX2_init_5 (by decide) ?_
  refine r_newa (n := 35) (a0 := (35, .inl (fun _ => 0))) hxR hbR hts hA hK hI (atype := .int) rfl q181 0 rfl (fun h => h) (fun _ => rfl) (by decide) (Nat.le_of_ble_eq_true rfl) (Nat.le_of_ble_eq_true rfl) (Nat.le_of_ble_eq_true rfl) dX2_init_7 (fun a0 H hI => ?_)
  have hI : wI E AR sR H _ [(o, .inr (2, [.null, .null, .null, .null, .null, .int 0, .int 0, .int 0])), (a0, .inl (E.2 0, 35, .inl (fun _ => 0)))] := hI
  refine r_putF (v := .ref a0) (ws1 := [(o, .inr (2, [.ref a0, .null, .null, .null, .null, .int 0, .int 0, .int 0])), (a0, .inl (E.2 0, 35, .inl (fun _ => 0)))]) hxR hbR hts hown hK hI okX2 (ci := 2) rfl 0 rfl 0 (by decide) q188 rfl rfl hnm rfl rfl rfl (Nat.le_of_ble_eq_true rfl) rfl dX2_init_9 (fun H locs hI => ?_)
  refine lv_aload_n hxR hbR dX2_init_12 rfl (lv_at hl 0 rfl) ?_
  refine lv_bipush (v := 35) hxR hbR dX2_init_13 (by decide) ?_
  refine r_newa (n := 35) (a0 := (35, .inl (fun _ => 0))) hxR hbR hts hA hK hI (atype := .int) rfl q181 0 rfl (fun h => h) (fun _ => rfl) (by decide) (Nat.le_of_ble_eq_true rfl) (Nat.le_of_ble_eq_true rfl) (Nat.le_of_ble_eq_true rfl) dX2_init_15 (fun a1 H hI => ?_)
  have hI : wI E AR sR H _ [(o, .inr (2, [.ref a0, .null, .null, .null, .null, .int 0, .int 0, .int 0])), (a0, .inl (E.2 0, 35, .inl (fun _ => 0))), (a1, .inl (E.2 0, 35, .inl (fun _ => 0)))] := hI
  refine r_putF (v := .ref a1) (ws1 := [(o, .inr (2, [.ref a0, .ref a1, .null, .null, .null, .int 0, .int 0, .int 0])), (a0, .inl (E.2 0, 35, .inl (fun _ => 0))), (a1, .inl (E.2 0, 35, .inl (fun _ => 0)))]) hxR hbR hts hown hK hI okX2 (ci := 2) rfl 0 rfl 1 (by decide) q191 rfl rfl hnm rfl rfl rfl (Nat.le_of_ble_eq_true rfl) rfl dX2_init_17 (fun H locs hI => ?_)
  refine lv_aload_n hxR hbR dX2_init_20 rfl (lv_at hl 0 rfl) ?_
  refine lv_sipush (v := 128) hxR hbR dX2_init_21 (by decide) ?_
  refine r_newa (n := 128) (a0 := (128, .inl (fun _ => 0))) hxR hbR hts hA hK hI (atype := .int) rfl q181 0 rfl (fun h => h) (fun _ => rfl) (by decide) (Nat.le_of_ble_eq_true rfl) (Nat.le_of_ble_eq_true rfl) (Nat.le_of_ble_eq_true rfl) dX2_init_24 (fun a2 H hI => ?_)
  have hI : wI E AR sR H _ [(o, .inr (2, [.ref a0, .ref a1, .null, .null, .null, .int 0, .int 0, .int 0])), (a0, .inl (E.2 0, 35, .inl (fun _ => 0))), (a1, .inl (E.2 0, 35, .inl (fun _ => 0))), (a2, .inl (E.2 0, 128, .inl (fun _ => 0)))] := hI
  refine r_putF (v := .ref a2) (ws1 := [(o, .inr (2, [.ref a0, .ref a1, .ref a2, .null, .null, .int 0, .int 0, .int 0])), (a0, .inl (E.2 0, 35, .inl (fun _ => 0))), (a1, .inl (E.2 0, 35, .inl (fun _ => 0))), (a2, .inl (E.2 0, 128, .inl (fun _ => 0)))]) hxR hbR hts hown hK hI okX2 (ci := 2) rfl 0 rfl 2 (by decide) q192 rfl rfl hnm rfl rfl rfl (Nat.le_of_ble_eq_true rfl) rfl dX2_init_26 (fun H locs hI => ?_)
  refine lv_aload_n hxR hbR dX2_init_29 rfl (lv_at hl 0 rfl) ?_
  refine lv_bipush (v := 7) hxR hbR dX2_init_30 (by decide) ?_
  refine r_newa (n := 7) (a0 := (7, .inl (fun _ => 0))) hxR hbR hts hA hK hI (atype := .int) rfl q181 0 rfl (fun h => h) (fun _ => rfl) (by decide) (Nat.le_of_ble_eq_true rfl) (Nat.le_of_ble_eq_true rfl) (Nat.le_of_ble_eq_true rfl) dX2_init_32 (fun a3 H hI => ?_)
  have hI : wI E AR sR H _ [(o, .inr (2, [.ref a0, .ref a1, .ref a2, .null, .null, .int 0, .int 0, .int 0])), (a0, .inl (E.2 0, 35, .inl (fun _ => 0))), (a1, .inl (E.2 0, 35, .inl (fun _ => 0))), (a2, .inl (E.2 0, 128, .inl (fun _ => 0))), (a3, .inl (E.2 0, 7, .inl (fun _ => 0)))] := hI
  refine r_putF (v := .ref a3) (ws1 := [(o, .inr (2, [.ref a0, .ref a1, .ref a2, .ref a3, .null, .int 0, .int 0, .int 0])), (a0, .inl (E.2 0, 35, .inl (fun _ => 0))), (a1, .inl (E.2 0, 35, .inl (fun _ => 0))), (a2, .inl (E.2 0, 128, .inl (fun _ => 0))), (a3, .inl (E.2 0, 7, .inl (fun _ => 0)))]) hxR hbR hts hown hK hI okX2 (ci := 2) rfl 0 rfl 3 (by decide) q193 rfl rfl hnm rfl rfl rfl (Nat.le_of_ble_eq_true rfl) rfl dX2_init_34 (fun H locs hI => ?_)
  have hI : wI E AR sR _ _ (gW E (fun k => match k with | 0 => a0 | 1 => a1 | 2 => a2 | 3 => a3 | 8 => o | _ => 0) (fun _ => 0) (fun _ => 0) (fun _ => 0) (fun _ => 0) (fun _ => 0) none) := hI
  exact hret (fun k => match k with | 0 => a0 | 1 => a1 | 2 => a2 | 3 => a3 | 8 => o | _ => 0) _ _ _ _ _ _ dX2_init_37 hI rfl (Nat.le_of_ble_eq_true rfl) (Nat.le_of_ble_eq_true rfl)

theorem c2_pairsOf (l : Launch) (E : En)  (Z : Nat) (hZ : Z < 2 ^ 31) : CtI l E yX2_pairsOf cX2_pairsOf 4 .int 1 0 0 [.int (nI Z)] (([] : va_W)) (fun (r : Int32) (u : Unit) => r = nI (pairN Z)) (fun (u : Unit) => ([] : va_W)) := by
  refine CtI.of (by decide +kernel) (Nat.le_of_ble_eq_true rfl) ?_
  intro pR eR sR mR aR bR tR cR AR ls QR hxR hbR hmlR hts hown hlk hnm hA hK hI hl hret
  have hl : lv_has ls 4 [(0, .int (nI Z))] := hl
  refine lv_iconst (v := 0) hxR hbR dX2_pairsOf_0 (by decide) ?_
  refine lv_istore_n (lv' := [(1, .int 0), (0, .int (nI Z))]) hxR hbR dX2_pairsOf_1 rfl hl (by decide) rfl (fun ls hl => ?_)
  refine lv_iconst (v := 0) hxR hbR dX2_pairsOf_2 (by decide) ?_
  refine lv_istore_n (lv' := [(2, .int 0), (1, .int 0), (0, .int (nI Z))]) hxR hbR dX2_pairsOf_3 rfl hl (by decide) rfl (fun ls hl => ?_)
  have lp_4 : ∀ (fu : Nat) (a : Nat) (p : Nat), (p ≤ 7) → (a = pb Z p) → 7 - p < fu → ∀ (H : Heap) (locs : List Loc), wI E AR sR H locs (([] : va_W)) → ∀ ls : Array Slot, lv_has ls 4 [(0, .int (nI Z)), (1, .int (nI a)), (2, .int (nI p))] → W pR l eR (rmF 1 0 0) sR mR aR bR tR cR H locs 0 0 QR (F0 mR 4 ls []) := by
    intro fu
    induction fu with
    | zero =>
      intro a p hp ha hfu
      exact absurd hfu (Nat.not_lt_zero _)
    | succ fu ih_4 =>
      intro a p hp ha hfu H locs hI ls hl
      refine lv_iload_n hxR hbR dX2_pairsOf_4 rfl (lv_at hl 2 rfl) ?_
      refine lv_bipush (v := 7) hxR hbR dX2_pairsOf_5 (by decide) ?_
      refine lv_icmp_ge (tgt := 63) hxR hbR dX2_pairsOf_7 (by decide) (fun c_7 => ?_) (fun c_7 => ?_)
      · skip
        have c_7 : 7 ≤ p := (n_le (a := 7) (b := p) (by omega) (by omega)).mp c_7
        refine lv_iload_n hxR hbR dX2_pairsOf_63 rfl (lv_at hl 1 rfl) ?_
        exact hret () (nI a) _ _ _ _ _ _ dX2_pairsOf_64 hI (by show (nI a) = nI (pairN Z); rw [ha, show p = 7 by omega]; rfl) (Nat.le_of_ble_eq_true rfl) (Nat.le_of_ble_eq_true rfl) rfl
      · skip
        have c_7 : p < 7 := Nat.lt_of_not_le (fun zz => c_7 ((n_le (a := 7) (b := p) (by omega) (by omega)).mpr zz))
        refine lv_iconst (v := 0) hxR hbR dX2_pairsOf_10 (by decide) ?_
        refine lv_istore_n (lv' := [(3, .int 0), (0, .int (nI Z)), (1, .int (nI a)), (2, .int (nI p))]) hxR hbR dX2_pairsOf_11 rfl hl (by decide) rfl (fun ls hl => ?_)
        have lp_12 : ∀ (fu : Nat) (b : Nat) (q : Nat), (q ≤ p) → (b = pbJ (pb Z p) Z p q) → p - q < fu → ∀ (H : Heap) (locs : List Loc), wI E AR sR H locs (([] : va_W)) → ∀ ls : Array Slot, lv_has ls 4 [(0, .int (nI Z)), (1, .int (nI b)), (2, .int (nI p)), (3, .int (nI q))] → W pR l eR (rmF 1 0 0) sR mR aR bR tR cR H locs 0 0 QR (F0 mR 12 ls []) := by
          intro fu
          induction fu with
          | zero =>
            intro b q hq hb hfu
            exact absurd hfu (Nat.not_lt_zero _)
          | succ fu ih_12 =>
            intro b q hq hb hfu H locs hI ls hl
            refine lv_iload_n hxR hbR dX2_pairsOf_12 rfl (lv_at hl 3 rfl) ?_
            refine lv_iload_n hxR hbR dX2_pairsOf_13 rfl (lv_at hl 2 rfl) ?_
            refine lv_icmp_ge (tgt := 57) hxR hbR dX2_pairsOf_14 (by decide) (fun c_14 => ?_) (fun c_14 => ?_)
            · skip
              have c_14 : p ≤ q := (n_le (a := p) (b := q) (by omega) (by omega)).mp c_14
              refine lv_iinc (v := nI (p + 1)) (lv' := [(2, .int (nI (p + 1))), (0, .int (nI Z)), (1, .int (nI b)), (3, .int (nI q))]) hxR hbR dX2_pairsOf_57 hl (k := 2) rfl (show nI p + 1 = nI (p + 1) from nI_add _ 1) (by decide) rfl (fun ls hl => ?_)
              refine lv_goto (tgt := 4) hxR hbR dX2_pairsOf_60 (by decide) ?_
              exact ih_4 b (p + 1) (by first | omega | with_reducible assumption) (by rw [hb, show q = p by omega]; rfl) (by omega) _ _ hI _ (lv_sub hl [1, 2, 0] rfl)
            · skip
              have c_14 : q < p := Nat.lt_of_not_le (fun zz => c_14 ((n_le (a := p) (b := q) (by omega) (by omega)).mpr zz))
              refine lv_iload_n hxR hbR dX2_pairsOf_17 rfl (lv_at hl 1 rfl) ?_
              refine lv_iload_n hxR hbR dX2_pairsOf_18 rfl (lv_at hl 0 rfl) ?_
              refine lv_iload_n hxR hbR dX2_pairsOf_19 rfl (lv_at hl 2 rfl) ?_
              refine kSNI (n := 2) (As := [.int (nI Z), .int (nI p)]) (rest := [.int (nI b)]) (fun w => w ++ (([] : va_W))) hxR hbR hmlR hts hown hK hA hl.1 (isCtx.suf _) hI (c0_has l E  Z p (by first | omega | with_reducible assumption) (by first | omega | with_reducible assumption)) (host := RX0) q661 q81 (by decide) q660 (by decide +kernel) rfl (Nat.le_of_ble_eq_true rfl) (Nat.le_of_ble_eq_true rfl) ⟨Nat.le_of_ble_eq_true rfl, Nat.le_of_ble_eq_true rfl⟩ (Nat.le_of_ble_eq_true rfl) dX2_pairsOf_20 (fun r_20 u H locs hp hI hz => ?_)
              have hI : wI E AR sR H locs (([] : va_W)) := hI
              have hp : r_20 = b2i (Z.testBit p) := hp
              have hr_20 := hp
              rcases b2i_cases hr_20 with ⟨c_20, rfl⟩ | ⟨c_20, rfl⟩
              · skip
                have c_20 : Z.testBit p = true := c_20
                refine lv_if_eq (tgt := 48) hxR hbR dX2_pairsOf_23 (by decide) (fun c => absurd c (by decide)) (fun _ => ?_)
                refine lv_iload_n hxR hbR dX2_pairsOf_26 rfl (lv_at hl 0 rfl) ?_
                refine lv_iload_n hxR hbR dX2_pairsOf_27 rfl (lv_at hl 3 rfl) ?_
                refine kSNI (n := 2) (As := [.int (nI Z), .int (nI q)]) (rest := [.int (nI b)]) (fun w => w ++ (([] : va_W))) hxR hbR hmlR hts hown hK hA hl.1 (isCtx.suf _) hI (c0_has l E  Z q (by first | omega | with_reducible assumption) (by first | omega | with_reducible assumption)) (host := RX0) q661 q81 (by decide) q660 (by decide +kernel) rfl (Nat.le_of_ble_eq_true rfl) (Nat.le_of_ble_eq_true rfl) ⟨Nat.le_of_ble_eq_true rfl, Nat.le_of_ble_eq_true rfl⟩ (Nat.le_of_ble_eq_true rfl) dX2_pairsOf_28 (fun r_28 u H locs hp hI hz => ?_)
                have hI : wI E AR sR H locs (([] : va_W)) := hI
                have hp : r_28 = b2i (Z.testBit q) := hp
                have hr_28 := hp
                rcases b2i_cases hr_28 with ⟨c_28, rfl⟩ | ⟨c_28, rfl⟩
                · skip
                  have c_28 : Z.testBit q = true := c_28
                  refine lv_if_eq (tgt := 48) hxR hbR dX2_pairsOf_31 (by decide) (fun c => absurd c (by decide)) (fun _ => ?_)
                  have h21 := pq21 p (by omega) q c_14
                  have hpp : p * (p - 1) ≤ 6 * 6 := Nat.mul_le_mul (by omega) (by omega)
                  refine lv_iconst (v := 1) hxR hbR dX2_pairsOf_34 (by decide) ?_
                  refine lv_iload_n hxR hbR dX2_pairsOf_35 rfl (lv_at hl 2 rfl) ?_
                  refine lv_iload_n hxR hbR dX2_pairsOf_36 rfl (lv_at hl 2 rfl) ?_
                  refine lv_iconst (v := 1) hxR hbR dX2_pairsOf_37 (by decide) ?_
                  refine lv_isub hxR hbR dX2_pairsOf_38 ?_
                  refine lv_as (y := nI (p - 1)) (pk_sub (a := p) (b := 1) (by omega)) ?_
                  refine lv_imul hxR hbR dX2_pairsOf_39 ?_
                  refine lv_as (y := nI (p * (p - 1))) (pk_mul p (p - 1)) ?_
                  refine lv_iconst (v := 2) hxR hbR dX2_pairsOf_40 (by decide) ?_
                  refine lv_idiv hxR hbR dX2_pairsOf_41 (by decide) ?_
                  refine lv_as (y := nI (p * (p - 1) / 2)) (pk_div (a := p * (p - 1)) (d := 2) (by omega) (by decide) (by decide)) ?_
                  refine lv_iload_n hxR hbR dX2_pairsOf_42 rfl (lv_at hl 3 rfl) ?_
                  refine lv_iadd hxR hbR dX2_pairsOf_43 ?_
                  refine lv_as (y := nI ((p * (p - 1) / 2) + q)) (nI_add (p * (p - 1) / 2) q) ?_
                  refine lv_ishl hxR hbR dX2_pairsOf_44 ?_
                  refine lv_as (y := nI (2 ^ ((p * (p - 1) / 2) + q))) (nb_shl ((p * (p - 1) / 2) + q) (by omega)) ?_
                  refine lv_goto (tgt := 49) hxR hbR dX2_pairsOf_45 (by decide) ?_
                  refine lv_ior hxR hbR dX2_pairsOf_49 ?_
                  refine lv_as (y := nI (b ||| (2 ^ ((p * (p - 1) / 2) + q)))) (nb_or b (2 ^ ((p * (p - 1) / 2) + q))) ?_
                  refine lv_istore_n (lv' := [(1, .int (nI (b ||| (2 ^ ((p * (p - 1) / 2) + q))))), (0, .int (nI Z)), (2, .int (nI p)), (3, .int (nI q))]) hxR hbR dX2_pairsOf_50 rfl hl (by decide) rfl (fun ls hl => ?_)
                  refine lv_iinc (v := nI (q + 1)) (lv' := [(3, .int (nI (q + 1))), (1, .int (nI (b ||| (2 ^ ((p * (p - 1) / 2) + q))))), (0, .int (nI Z)), (2, .int (nI p))]) hxR hbR dX2_pairsOf_51 hl (k := 3) rfl (show nI q + 1 = nI (q + 1) from nI_add _ 1) (by decide) rfl (fun ls hl => ?_)
                  refine lv_goto (tgt := 12) hxR hbR dX2_pairsOf_54 (by decide) ?_
                  exact ih_12 (b ||| (2 ^ ((p * (p - 1) / 2) + q))) (q + 1) (by first | omega | with_reducible assumption) (by rw [hb]; first | exact (pbJ_y c_20 c_28).symm | exact (pbJ_n1 c_20).symm | exact (pbJ_n2 c_28).symm) (by omega) _ _ hI _ (lv_sub hl [2, 1, 3, 0] rfl)
                · skip
                  have c_28 : Z.testBit q = false := c_28
                  refine lv_if_eq (tgt := 48) hxR hbR dX2_pairsOf_31 (by decide) (fun _ => ?_) (fun c => absurd c (by decide))
                  refine lv_iconst (v := 0) hxR hbR dX2_pairsOf_48 (by decide) ?_
                  refine lv_ior hxR hbR dX2_pairsOf_49 ?_
                  refine lv_as (y := nI (b ||| 0)) (nb_or b 0) ?_
                  refine lv_istore_n (lv' := [(1, .int (nI (b ||| 0))), (0, .int (nI Z)), (2, .int (nI p)), (3, .int (nI q))]) hxR hbR dX2_pairsOf_50 rfl hl (by decide) rfl (fun ls hl => ?_)
                  refine lv_iinc (v := nI (q + 1)) (lv' := [(3, .int (nI (q + 1))), (1, .int (nI (b ||| 0))), (0, .int (nI Z)), (2, .int (nI p))]) hxR hbR dX2_pairsOf_51 hl (k := 3) rfl (show nI q + 1 = nI (q + 1) from nI_add _ 1) (by decide) rfl (fun ls hl => ?_)
                  refine lv_goto (tgt := 12) hxR hbR dX2_pairsOf_54 (by decide) ?_
                  exact ih_12 (b ||| 0) (q + 1) (by first | omega | with_reducible assumption) (by rw [hb]; first | exact (pbJ_y c_20 c_28).symm | exact (pbJ_n1 c_20).symm | exact (pbJ_n2 c_28).symm) (by omega) _ _ hI _ (lv_sub hl [2, 1, 3, 0] rfl)
              · skip
                have c_20 : Z.testBit p = false := c_20
                refine lv_if_eq (tgt := 48) hxR hbR dX2_pairsOf_23 (by decide) (fun _ => ?_) (fun c => absurd c (by decide))
                refine lv_iconst (v := 0) hxR hbR dX2_pairsOf_48 (by decide) ?_
                refine lv_ior hxR hbR dX2_pairsOf_49 ?_
                refine lv_as (y := nI (b ||| 0)) (nb_or b 0) ?_
                refine lv_istore_n (lv' := [(1, .int (nI (b ||| 0))), (0, .int (nI Z)), (2, .int (nI p)), (3, .int (nI q))]) hxR hbR dX2_pairsOf_50 rfl hl (by decide) rfl (fun ls hl => ?_)
                refine lv_iinc (v := nI (q + 1)) (lv' := [(3, .int (nI (q + 1))), (1, .int (nI (b ||| 0))), (0, .int (nI Z)), (2, .int (nI p))]) hxR hbR dX2_pairsOf_51 hl (k := 3) rfl (show nI q + 1 = nI (q + 1) from nI_add _ 1) (by decide) rfl (fun ls hl => ?_)
                refine lv_goto (tgt := 12) hxR hbR dX2_pairsOf_54 (by decide) ?_
                exact ih_12 (b ||| 0) (q + 1) (by first | omega | with_reducible assumption) (by rw [hb]; first | exact (pbJ_y c_20 c_28).symm | exact (pbJ_n1 c_20).symm | exact (pbJ_n2 c_28).symm) (by omega) _ _ hI _ (lv_sub hl [2, 1, 3, 0] rfl)
        exact lp_12 _ a 0 (by first | omega | with_reducible assumption) ha (Nat.lt_succ_self _) _ _ hI _ (lv_sub hl [1, 2, 3, 0] rfl)
  exact lp_4 _ 0 0 (by first | omega | with_reducible assumption) rfl (Nat.lt_succ_self _) _ _ hI _ (lv_sub hl [2, 1, 0] rfl)

theorem c2_isOf (l : Launch) (E : En) (ad : Nat → Nat) (iv : Nat → Int32) (gr : Nat → Int32) (pa : Nat → Int32) (mo : Nat → Int32) (sg : Nat → Int32) (tn : Option Nat) (L : List Nat) (J Z : Nat) (hc : iv 5 = nI L.length) (hL : gL gr L) (hJ : J < L.length) (hZ : Z < 2 ^ 31) : CtI l E yX2_isOf cX2_isOf 3 .boolean 0 0 0 [.ref (ad 8), .int (nI J), .int (nI Z)] (gW E ad iv gr pa mo sg tn) (fun (r : Int32) (u : Unit) => r = b2i (decide (nd (L.getD J 0) Z = 0))) (fun (u : Unit) => gW E ad iv gr pa mo sg tn) := by
  have hl35 := hL.2.1
  refine CtI.of (by decide +kernel) (Nat.le_of_ble_eq_true rfl) ?_
  intro pR eR sR mR aR bR tR cR AR ls QR hxR hbR hmlR hts hown hlk hnm hA hK hI hl hret
  have hl : lv_has ls 3 [(0, .ref (ad 8)), (1, .int (nI J)), (2, .int (nI Z))] := hl
  refine lv_aload_n hxR hbR dX2_isOf_0 rfl (lv_at hl 0 rfl) ?_
  refine r_get hxR hbR hts hown hK hI okX2 (ci := 2) rfl 0 gW_o 0 (by decide) q188 rfl (v := .ref (ad 0)) rfl dX2_isOf_1 ?_
  refine lv_iload_n hxR hbR dX2_isOf_4 rfl (lv_at hl 1 rfl) ?_
  refine r_iald hxR hbR hK hI 1 (n := 35) (J := J) (f := gr) (v := nI (L.getD J 0)) (gW_g0 rfl) (by omega) (by decide) (hL.at (by omega)) dX2_isOf_5 ?_
  refine lv_iload_n hxR hbR dX2_isOf_6 rfl (lv_at hl 2 rfl) ?_
  refine lv_iconst (v := (-1)) hxR hbR dX2_isOf_7 (by decide) ?_
  refine lv_ixor hxR hbR dX2_isOf_8 ?_
  refine lv_iand hxR hbR dX2_isOf_9 ?_
  refine lv_as (y := nI (nd (L.getD J 0) Z)) (nb_nd (L.getD J 0) Z) ?_
  refine lv_if_ne (tgt := 17) hxR hbR dX2_isOf_10 (by decide) (fun c_10 => ?_) (fun c_10 => ?_)
  · skip
    have c_10 : ¬ (nd (L.getD J 0) Z) = 0 := fun zz => c_10 ((n_eq (a := (nd (L.getD J 0) Z)) (b := 0) (by have := nd_le (L.getD J 0) Z; have := hL.lt hJ; omega) (by decide)).mpr zz)
    refine lv_iconst (v := 0) hxR hbR dX2_isOf_17 (by decide) ?_
    exact hret () 0 _ _ _ _ _ _ dX2_isOf_18 hI (by show 0 = b2i (decide (nd (L.getD J 0) Z = 0)); first | rw [decide_eq_true c_10]; rfl | rw [decide_eq_false c_10]; rfl) (Nat.le_of_ble_eq_true rfl) (Nat.le_of_ble_eq_true rfl) rfl
  · skip
    have c_10 : (nd (L.getD J 0) Z) = 0 := (n_eq (a := (nd (L.getD J 0) Z)) (b := 0) (by have := nd_le (L.getD J 0) Z; have := hL.lt hJ; omega) (by decide)).mp c_10
    refine lv_iconst (v := 1) hxR hbR dX2_isOf_13 (by decide) ?_
    refine lv_goto (tgt := 18) hxR hbR dX2_isOf_14 (by decide) ?_
    exact hret () 1 _ _ _ _ _ _ dX2_isOf_18 hI (by show 1 = b2i (decide (nd (L.getD J 0) Z = 0)); first | rw [decide_eq_true c_10]; rfl | rw [decide_eq_false c_10]; rfl) (Nat.le_of_ble_eq_true rfl) (Nat.le_of_ble_eq_true rfl) rfl

theorem c2_many (l : Launch) (E : En) (ad : Nat → Nat) (iv : Nat → Int32) (gr : Nat → Int32) (pa : Nat → Int32) (mo : Nat → Int32) (sg : Nat → Int32) (tn : Option Nat) (L : List Nat) (Z : Nat) (hc : iv 5 = nI L.length) (hL : gL gr L) (hZ : Z < 2 ^ 31) : CtI l E yX2_many cX2_many 4 .int 1 0 0 [.ref (ad 8), .int (nI Z)] (gW E ad iv gr pa mo sg tn) (fun (r : Int32) (u : Unit) => r = nI (cntL Z L)) (fun (u : Unit) => gW E ad iv gr pa mo sg tn) := by
  have hl35 := hL.2.1
  refine CtI.of (by decide +kernel) (Nat.le_of_ble_eq_true rfl) ?_
  intro pR eR sR mR aR bR tR cR AR ls QR hxR hbR hmlR hts hown hlk hnm hA hK hI hl hret
  have hl : lv_has ls 4 [(0, .ref (ad 8)), (1, .int (nI Z))] := hl
  refine lv_iconst (v := 0) hxR hbR dX2_many_0 (by decide) ?_
  refine lv_istore_n (lv' := [(2, .int 0), (0, .ref (ad 8)), (1, .int (nI Z))]) hxR hbR dX2_many_1 rfl hl (by decide) rfl (fun ls hl => ?_)
  refine lv_iconst (v := 0) hxR hbR dX2_many_2 (by decide) ?_
  refine lv_istore_n (lv' := [(3, .int 0), (2, .int 0), (0, .ref (ad 8)), (1, .int (nI Z))]) hxR hbR dX2_many_3 rfl hl (by decide) rfl (fun ls hl => ?_)
  have lp_4 : ∀ (fu : Nat) (a : Nat) (i : Nat), (i ≤ L.length) → (a + cntL Z (L.drop i) = cntL Z L) → L.length - i < fu → ∀ (H : Heap) (locs : List Loc), wI E AR sR H locs (gW E ad iv gr pa mo sg tn) → ∀ ls : Array Slot, lv_has ls 4 [(0, .ref (ad 8)), (1, .int (nI Z)), (2, .int (nI a)), (3, .int (nI i))] → W pR l eR (rmF 1 0 0) sR mR aR bR tR cR H locs 0 0 QR (F0 mR 4 ls []) := by
    intro fu
    induction fu with
    | zero =>
      intro a i hi ha hfu
      exact absurd hfu (Nat.not_lt_zero _)
    | succ fu ih_4 =>
      intro a i hi ha hfu H locs hI ls hl
      refine lv_iload_n hxR hbR dX2_many_4 rfl (lv_at hl 3 rfl) ?_
      refine lv_aload_n hxR hbR dX2_many_5 rfl (lv_at hl 0 rfl) ?_
      refine r_get hxR hbR hts hown hK hI okX2 (ci := 2) rfl 0 gW_o 5 (by decide) q195 rfl (v := .int (nI L.length)) (al hc) dX2_many_6 ?_
      refine lv_icmp_ge (tgt := 35) hxR hbR dX2_many_9 (by decide) (fun c_9 => ?_) (fun c_9 => ?_)
      · skip
        have c_9 : L.length ≤ i := (n_le (a := L.length) (b := i) (by omega) (by omega)).mp c_9
        refine lv_iload_n hxR hbR dX2_many_35 rfl (lv_at hl 2 rfl) ?_
        exact hret () (nI a) _ _ _ _ _ _ dX2_many_36 hI (by show (nI a) = nI (cntL Z L); rw [← ha, List.drop_eq_nil_of_le (by omega)]; rfl) (Nat.le_of_ble_eq_true rfl) (Nat.le_of_ble_eq_true rfl) rfl
      · skip
        have c_9 : i < L.length := Nat.lt_of_not_le (fun zz => c_9 ((n_le (a := L.length) (b := i) (by omega) (by omega)).mpr zz))
        refine lv_iload_n hxR hbR dX2_many_12 rfl (lv_at hl 2 rfl) ?_
        refine lv_aload_n hxR hbR dX2_many_13 rfl (lv_at hl 0 rfl) ?_
        refine lv_iload_n hxR hbR dX2_many_14 rfl (lv_at hl 3 rfl) ?_
        refine lv_iload_n hxR hbR dX2_many_15 rfl (lv_at hl 1 rfl) ?_
        refine kVI (n := 2) (As := [.int (nI i), .int (nI Z)]) (rest := [.int (nI a)]) (fun w => w) hxR hbR hmlR hts hown hK hA hl.1 isCtx.id hI (c2_isOf l E ad iv gr pa mo sg tn L i Z hc (by first | omega | with_reducible assumption) (by first | omega | with_reducible assumption) (by first | omega | with_reducible assumption)) (lw_V q662 q663 q664 q83 q665) ⟨rfl, by decide +kernel⟩ 0 2 rfl rfl gW_o rfl (Nat.le_of_ble_eq_true rfl) (Nat.le_of_ble_eq_true rfl) ⟨Nat.le_of_ble_eq_true rfl, Nat.le_of_ble_eq_true rfl⟩ (Nat.le_of_ble_eq_true rfl) dX2_many_16 (fun r_16 u H locs hp hI hz => ?_)
        have hI : wI E AR sR H locs (gW E ad iv gr pa mo sg tn) := hI
        have hp : r_16 = b2i (decide (nd (L.getD i 0) Z = 0)) := hp
        have hr_16 := hp
        rcases b2i_cases hr_16 with ⟨c_16, rfl⟩ | ⟨c_16, rfl⟩
        · skip
          have c_16 : nd (L.getD i 0) Z = 0 := of_decide_eq_true c_16
          refine lv_if_eq (tgt := 26) hxR hbR dX2_many_19 (by decide) (fun c => absurd c (by decide)) (fun _ => ?_)
          refine lv_iconst (v := 1) hxR hbR dX2_many_22 (by decide) ?_
          refine lv_goto (tgt := 27) hxR hbR dX2_many_23 (by decide) ?_
          refine lv_iadd hxR hbR dX2_many_27 ?_
          refine lv_as (y := nI (a + 1)) (nI_add a 1) ?_
          refine lv_istore_n (lv' := [(2, .int (nI (a + 1))), (0, .ref (ad 8)), (1, .int (nI Z)), (3, .int (nI i))]) hxR hbR dX2_many_28 rfl hl (by decide) rfl (fun ls hl => ?_)
          refine lv_iinc (v := nI (i + 1)) (lv' := [(3, .int (nI (i + 1))), (2, .int (nI (a + 1))), (0, .ref (ad 8)), (1, .int (nI Z))]) hxR hbR dX2_many_29 hl (k := 3) rfl (show nI i + 1 = nI (i + 1) from nI_add _ 1) (by decide) rfl (fun ls hl => ?_)
          refine lv_goto (tgt := 4) hxR hbR dX2_many_32 (by decide) ?_
          exact ih_4 (a + 1) (i + 1) (by first | omega | with_reducible assumption) (by rw [← ha, dropD (i := i) (by omega), cntL]; first | (rw [if_neg c_16]; omega) | (rw [if_pos c_16]; omega)) (by omega) _ _ hI _ (lv_sub hl [2, 3, 1, 0] rfl)
        · skip
          have c_16 : ¬ nd (L.getD i 0) Z = 0 := of_decide_eq_false c_16
          refine lv_if_eq (tgt := 26) hxR hbR dX2_many_19 (by decide) (fun _ => ?_) (fun c => absurd c (by decide))
          refine lv_iconst (v := 0) hxR hbR dX2_many_26 (by decide) ?_
          refine lv_iadd hxR hbR dX2_many_27 ?_
          refine lv_as (y := nI a) (nI_add a 0) ?_
          refine lv_istore_n (lv' := [(2, .int (nI a)), (0, .ref (ad 8)), (1, .int (nI Z)), (3, .int (nI i))]) hxR hbR dX2_many_28 rfl hl (by decide) rfl (fun ls hl => ?_)
          refine lv_iinc (v := nI (i + 1)) (lv' := [(3, .int (nI (i + 1))), (2, .int (nI a)), (0, .ref (ad 8)), (1, .int (nI Z))]) hxR hbR dX2_many_29 hl (k := 3) rfl (show nI i + 1 = nI (i + 1) from nI_add _ 1) (by decide) rfl (fun ls hl => ?_)
          refine lv_goto (tgt := 4) hxR hbR dX2_many_32 (by decide) ?_
          exact ih_4 a (i + 1) (by first | omega | with_reducible assumption) (by rw [← ha, dropD (i := i) (by omega), cntL]; first | (rw [if_neg c_16]; omega) | (rw [if_pos c_16]; omega)) (by omega) _ _ hI _ (lv_sub hl [2, 3, 1, 0] rfl)
  exact lp_4 _ 0 0 (by first | omega | with_reducible assumption) (Nat.zero_add _) (Nat.lt_succ_self _) _ _ hI _ (lv_sub hl [2, 3, 1, 0] rfl)

theorem c2_has1 (l : Launch) (E : En) (ad : Nat → Nat) (iv : Nat → Int32) (gr : Nat → Int32) (pa : Nat → Int32) (mo : Nat → Int32) (sg : Nat → Int32) (tn : Option Nat) (L : List Nat) (Z : Nat) (hc : iv 5 = nI L.length) (hL : gL gr L) (hZ : Z < 2 ^ 31) : CtI l E yX2_has1 cX2_has1 3 .boolean 1 0 0 [.ref (ad 8), .int (nI Z)] (gW E ad iv gr pa mo sg tn) (fun (r : Int32) (u : Unit) => r = b2i (decide (Z ∈ L))) (fun (u : Unit) => gW E ad iv gr pa mo sg tn) := by
  have hl35 := hL.2.1
  refine CtI.of (by decide +kernel) (Nat.le_of_ble_eq_true rfl) ?_
  intro pR eR sR mR aR bR tR cR AR ls QR hxR hbR hmlR hts hown hlk hnm hA hK hI hl hret
  have hl : lv_has ls 3 [(0, .ref (ad 8)), (1, .int (nI Z))] := hl
  refine lv_iconst (v := 0) hxR hbR dX2_has1_0 (by decide) ?_
  refine lv_istore_n (lv' := [(2, .int 0), (0, .ref (ad 8)), (1, .int (nI Z))]) hxR hbR dX2_has1_1 rfl hl (by decide) rfl (fun ls hl => ?_)
  have lp_2 : ∀ (fu : Nat) (i : Nat), (i ≤ L.length) → (∀ j, j < i → ¬ L.getD j 0 = Z) → L.length - i < fu → ∀ (H : Heap) (locs : List Loc), wI E AR sR H locs (gW E ad iv gr pa mo sg tn) → ∀ ls : Array Slot, lv_has ls 3 [(0, .ref (ad 8)), (1, .int (nI Z)), (2, .int (nI i))] → W pR l eR (rmF 1 0 0) sR mR aR bR tR cR H locs 0 0 QR (F0 mR 2 ls []) := by
    intro fu
    induction fu with
    | zero =>
      intro i hi hq hfu
      exact absurd hfu (Nat.not_lt_zero _)
    | succ fu ih_2 =>
      intro i hi hq hfu H locs hI ls hl
      refine lv_iload_n hxR hbR dX2_has1_2 rfl (lv_at hl 2 rfl) ?_
      refine lv_aload_n hxR hbR dX2_has1_3 rfl (lv_at hl 0 rfl) ?_
      refine r_get hxR hbR hts hown hK hI okX2 (ci := 2) rfl 0 gW_o 5 (by decide) q195 rfl (v := .int (nI L.length)) (al hc) dX2_has1_4 ?_
      refine lv_icmp_ge (tgt := 28) hxR hbR dX2_has1_7 (by decide) (fun c_7 => ?_) (fun c_7 => ?_)
      · skip
        have c_7 : L.length ≤ i := (n_le (a := L.length) (b := i) (by omega) (by omega)).mp c_7
        refine lv_iconst (v := 0) hxR hbR dX2_has1_28 (by decide) ?_
        exact hret () 0 _ _ _ _ _ _ dX2_has1_29 hI (by show 0 = b2i (decide (Z ∈ L)); rw [decide_eq_false (fun h => by obtain ⟨j, hj, e⟩ := List.getElem_of_mem h; exact hq j (by omega) (by rw [List.getD_eq_getElem?_getD, List.getElem?_eq_getElem hj]; exact e))]; rfl) (Nat.le_of_ble_eq_true rfl) (Nat.le_of_ble_eq_true rfl) rfl
      · skip
        have c_7 : i < L.length := Nat.lt_of_not_le (fun zz => c_7 ((n_le (a := L.length) (b := i) (by omega) (by omega)).mpr zz))
        refine lv_aload_n hxR hbR dX2_has1_10 rfl (lv_at hl 0 rfl) ?_
        refine r_get hxR hbR hts hown hK hI okX2 (ci := 2) rfl 0 gW_o 0 (by decide) q188 rfl (v := .ref (ad 0)) rfl dX2_has1_11 ?_
        refine lv_iload_n hxR hbR dX2_has1_14 rfl (lv_at hl 2 rfl) ?_
        refine r_iald hxR hbR hK hI 1 (n := 35) (J := i) (f := gr) (v := nI (L.getD i 0)) (gW_g0 rfl) (by omega) (by decide) (hL.at (by omega)) dX2_has1_15 ?_
        refine lv_iload_n hxR hbR dX2_has1_16 rfl (lv_at hl 1 rfl) ?_
        refine lv_icmp_ne (tgt := 22) hxR hbR dX2_has1_17 (by decide) (fun c_17 => ?_) (fun c_17 => ?_)
        · skip
          have c_17 : ¬ (L.getD i 0) = Z := fun zz => c_17 ((n_eq (a := (L.getD i 0)) (b := Z) (by have := hL.lt (j := i) (by omega); omega) (by omega)).mpr zz)
          refine lv_iinc (v := nI (i + 1)) (lv' := [(2, .int (nI (i + 1))), (0, .ref (ad 8)), (1, .int (nI Z))]) hxR hbR dX2_has1_22 hl (k := 2) rfl (show nI i + 1 = nI (i + 1) from nI_add _ 1) (by decide) rfl (fun ls hl => ?_)
          refine lv_goto (tgt := 2) hxR hbR dX2_has1_25 (by decide) ?_
          exact ih_2 (i + 1) (by first | omega | with_reducible assumption) (lt_s hq c_17) (by omega) _ _ hI _ (lv_sub hl [1, 2, 0] rfl)
        · skip
          have c_17 : (L.getD i 0) = Z := (n_eq (a := (L.getD i 0)) (b := Z) (by have := hL.lt (j := i) (by omega); omega) (by omega)).mp c_17
          refine lv_iconst (v := 1) hxR hbR dX2_has1_20 (by decide) ?_
          exact hret () 1 _ _ _ _ _ _ dX2_has1_21 hI (by show 1 = b2i (decide (Z ∈ L)); rw [decide_eq_true (by rw [← c_17]; exact getD_mem (by omega))]; rfl) (Nat.le_of_ble_eq_true rfl) (Nat.le_of_ble_eq_true rfl) rfl
  exact lp_2 _ 0 (by first | omega | with_reducible assumption) (fun j h => absurd h (Nat.not_lt_zero _)) (Nat.lt_succ_self _) _ _ hI _ (lv_sub hl [1, 2, 0] rfl)

theorem c2_first (l : Launch) (E : En) (ad : Nat → Nat) (iv : Nat → Int32) (gr : Nat → Int32) (pa : Nat → Int32) (mo : Nat → Int32) (sg : Nat → Int32) (tn : Option Nat) (L : List Nat) (Z : Nat) (hc : iv 5 = nI L.length) (hL : gL gr L) (hZ : Z < 2 ^ 31) : CtI l E yX2_first cX2_first 3 .int 1 0 0 [.ref (ad 8), .int (nI Z)] (gW E ad iv gr pa mo sg tn) (fun (r : Int32) (u : Unit) => r = nI (firstL Z L)) (fun (u : Unit) => gW E ad iv gr pa mo sg tn) := by
  have hl35 := hL.2.1
  refine CtI.of (by decide +kernel) (Nat.le_of_ble_eq_true rfl) ?_
  intro pR eR sR mR aR bR tR cR AR ls QR hxR hbR hmlR hts hown hlk hnm hA hK hI hl hret
  have hl : lv_has ls 3 [(0, .ref (ad 8)), (1, .int (nI Z))] := hl
  refine lv_iconst (v := 0) hxR hbR dX2_first_0 (by decide) ?_
  refine lv_istore_n (lv' := [(2, .int 0), (0, .ref (ad 8)), (1, .int (nI Z))]) hxR hbR dX2_first_1 rfl hl (by decide) rfl (fun ls hl => ?_)
  have lp_2 : ∀ (fu : Nat) (i : Nat), (i ≤ L.length) → (firstL Z (L.drop i) = firstL Z L) → L.length - i < fu → ∀ (H : Heap) (locs : List Loc), wI E AR sR H locs (gW E ad iv gr pa mo sg tn) → ∀ ls : Array Slot, lv_has ls 3 [(0, .ref (ad 8)), (1, .int (nI Z)), (2, .int (nI i))] → W pR l eR (rmF 1 0 0) sR mR aR bR tR cR H locs 0 0 QR (F0 mR 2 ls []) := by
    intro fu
    induction fu with
    | zero =>
      intro i hi hf hfu
      exact absurd hfu (Nat.not_lt_zero _)
    | succ fu ih_2 =>
      intro i hi hf hfu H locs hI ls hl
      refine lv_iload_n hxR hbR dX2_first_2 rfl (lv_at hl 2 rfl) ?_
      refine lv_aload_n hxR hbR dX2_first_3 rfl (lv_at hl 0 rfl) ?_
      refine r_get hxR hbR hts hown hK hI okX2 (ci := 2) rfl 0 gW_o 5 (by decide) q195 rfl (v := .int (nI L.length)) (al hc) dX2_first_4 ?_
      refine lv_icmp_ge (tgt := 32) hxR hbR dX2_first_7 (by decide) (fun c_7 => ?_) (fun c_7 => ?_)
      · skip
        have c_7 : L.length ≤ i := (n_le (a := L.length) (b := i) (by omega) (by omega)).mp c_7
        refine lv_iconst (v := 0) hxR hbR dX2_first_32 (by decide) ?_
        exact hret () 0 _ _ _ _ _ _ dX2_first_33 hI (by show 0 = nI (firstL Z L); rw [← hf, List.drop_eq_nil_of_le (by omega)]; rfl) (Nat.le_of_ble_eq_true rfl) (Nat.le_of_ble_eq_true rfl) rfl
      · skip
        have c_7 : i < L.length := Nat.lt_of_not_le (fun zz => c_7 ((n_le (a := L.length) (b := i) (by omega) (by omega)).mpr zz))
        refine lv_aload_n hxR hbR dX2_first_10 rfl (lv_at hl 0 rfl) ?_
        refine lv_iload_n hxR hbR dX2_first_11 rfl (lv_at hl 2 rfl) ?_
        refine lv_iload_n hxR hbR dX2_first_12 rfl (lv_at hl 1 rfl) ?_
        refine kVI (n := 2) (As := [.int (nI i), .int (nI Z)]) (rest := []) (fun w => w) hxR hbR hmlR hts hown hK hA hl.1 isCtx.id hI (c2_isOf l E ad iv gr pa mo sg tn L i Z hc (by first | omega | with_reducible assumption) (by first | omega | with_reducible assumption) (by first | omega | with_reducible assumption)) (lw_V q662 q663 q664 q83 q665) ⟨rfl, by decide +kernel⟩ 0 2 rfl rfl gW_o rfl (Nat.le_of_ble_eq_true rfl) (Nat.le_of_ble_eq_true rfl) ⟨Nat.le_of_ble_eq_true rfl, Nat.le_of_ble_eq_true rfl⟩ (Nat.le_of_ble_eq_true rfl) dX2_first_13 (fun r_13 u H locs hp hI hz => ?_)
        have hI : wI E AR sR H locs (gW E ad iv gr pa mo sg tn) := hI
        have hp : r_13 = b2i (decide (nd (L.getD i 0) Z = 0)) := hp
        have hr_13 := hp
        rcases b2i_cases hr_13 with ⟨c_13, rfl⟩ | ⟨c_13, rfl⟩
        · skip
          have c_13 : nd (L.getD i 0) Z = 0 := of_decide_eq_true c_13
          refine lv_if_eq (tgt := 26) hxR hbR dX2_first_16 (by decide) (fun c => absurd c (by decide)) (fun _ => ?_)
          refine lv_aload_n hxR hbR dX2_first_19 rfl (lv_at hl 0 rfl) ?_
          refine r_get hxR hbR hts hown hK hI okX2 (ci := 2) rfl 0 gW_o 0 (by decide) q188 rfl (v := .ref (ad 0)) rfl dX2_first_20 ?_
          refine lv_iload_n hxR hbR dX2_first_23 rfl (lv_at hl 2 rfl) ?_
          refine r_iald hxR hbR hK hI 1 (n := 35) (J := i) (f := gr) (v := nI (L.getD i 0)) (gW_g0 rfl) (by omega) (by decide) (hL.at (by omega)) dX2_first_24 ?_
          exact hret () (nI (L.getD i 0)) _ _ _ _ _ _ dX2_first_25 hI (by show (nI (L.getD i 0)) = nI (firstL Z L); rw [← hf, dropD (i := i) (by omega), firstL, if_pos c_13]) (Nat.le_of_ble_eq_true rfl) (Nat.le_of_ble_eq_true rfl) rfl
        · skip
          have c_13 : ¬ nd (L.getD i 0) Z = 0 := of_decide_eq_false c_13
          refine lv_if_eq (tgt := 26) hxR hbR dX2_first_16 (by decide) (fun _ => ?_) (fun c => absurd c (by decide))
          refine lv_iinc (v := nI (i + 1)) (lv' := [(2, .int (nI (i + 1))), (0, .ref (ad 8)), (1, .int (nI Z))]) hxR hbR dX2_first_26 hl (k := 2) rfl (show nI i + 1 = nI (i + 1) from nI_add _ 1) (by decide) rfl (fun ls hl => ?_)
          refine lv_goto (tgt := 2) hxR hbR dX2_first_29 (by decide) ?_
          exact ih_2 (i + 1) (by first | omega | with_reducible assumption) (by rw [← hf, dropD (i := i) (by omega), firstL, if_neg c_13]) (by omega) _ _ hI _ (lv_sub hl [1, 2, 0] rfl)
  exact lp_2 _ 0 (by first | omega | with_reducible assumption) rfl (Nat.lt_succ_self _) _ _ hI _ (lv_sub hl [1, 2, 0] rfl)

theorem c2_most (l : Launch) (E : En) (ad : Nat → Nat) (iv : Nat → Int32) (gr : Nat → Int32) (pa : Nat → Int32) (mo : Nat → Int32) (sg : Nat → Int32) (tn : Option Nat) (L : List Nat) (n Z : Nat) (hn7 : n ≤ 7) (hM : ∀ Z, Z < 2 ^ n → mo Z = nI (mostV L Z)) (hZ : Z < 2 ^ n) : CtI l E yX2_most cX2_most 2 .int 1 0 0 [.ref (ad 8), .int (nI Z)] (gW E ad iv gr pa mo sg tn) (fun (r : Int32) (u : Unit) => r = nI (mostV L Z)) (fun (u : Unit) => gW E ad iv gr pa mo sg tn) := by
  have h27 : 2 ^ n ≤ 2 ^ 7 := Nat.pow_le_pow_right (by decide) hn7
  refine CtI.of (by decide +kernel) (Nat.le_of_ble_eq_true rfl) ?_
  intro pR eR sR mR aR bR tR cR AR ls QR hxR hbR hmlR hts hown hlk hnm hA hK hI hl hret
  have hl : lv_has ls 2 [(0, .ref (ad 8)), (1, .int (nI Z))] := hl
  refine lv_aload_n hxR hbR dX2_most_0 rfl (lv_at hl 0 rfl) ?_
  refine r_get hxR hbR hts hown hK hI okX2 (ci := 2) rfl 0 gW_o 2 (by decide) q192 rfl (v := .ref (ad 2)) rfl dX2_most_1 ?_
  refine lv_iload_n hxR hbR dX2_most_4 rfl (lv_at hl 1 rfl) ?_
  refine r_iald hxR hbR hK hI 3 (n := 128) (J := Z) (f := mo) (v := nI (mostV L Z)) (gW_g2 rfl) (by omega) (by decide) (hM _ (by omega)) dX2_most_5 ?_
  exact hret () (nI (mostV L Z)) _ _ _ _ _ _ dX2_most_6 hI (by show (nI (mostV L Z)) = nI (mostV L Z); rfl) (Nat.le_of_ble_eq_true rfl) (Nat.le_of_ble_eq_true rfl) rfl

theorem c2_best (l : Launch) (E : En) (ad : Nat → Nat) (iv : Nat → Int32) (gr : Nat → Int32) (pa : Nat → Int32) (mo : Nat → Int32) (sg : Nat → Int32) (tn : Option Nat) (L : List Nat) (n Z : Nat) (hc : iv 5 = nI L.length) (hL : gL gr L) (hn7 : n ≤ 7) (hM : ∀ Z, Z < 2 ^ n → mo Z = nI (mostV L Z)) (hZ : Z < 2 ^ n) : CtI l E yX2_best cX2_best 3 .int 2 0 0 [.ref (ad 8), .int (nI Z)] (gW E ad iv gr pa mo sg tn) (fun (r : Int32) (u : Unit) => r = nI (bestL L Z L)) (fun (u : Unit) => gW E ad iv gr pa mo sg tn) := by
  have hl35 := hL.2.1
  have h27 : 2 ^ n ≤ 2 ^ 7 := Nat.pow_le_pow_right (by decide) hn7
  have hmZ := mostV_le hL.nz Z
  refine CtI.of (by decide +kernel) (Nat.le_of_ble_eq_true rfl) ?_
  intro pR eR sR mR aR bR tR cR AR ls QR hxR hbR hmlR hts hown hlk hnm hA hK hI hl hret
  have hl : lv_has ls 3 [(0, .ref (ad 8)), (1, .int (nI Z))] := hl
  refine lv_iconst (v := 0) hxR hbR dX2_best_0 (by decide) ?_
  refine lv_istore_n (lv' := [(2, .int 0), (0, .ref (ad 8)), (1, .int (nI Z))]) hxR hbR dX2_best_1 rfl hl (by decide) rfl (fun ls hl => ?_)
  have lp_2 : ∀ (fu : Nat) (i : Nat), (i ≤ L.length) → (bestL L Z (L.drop i) = bestL L Z L) → L.length - i < fu → ∀ (H : Heap) (locs : List Loc), wI E AR sR H locs (gW E ad iv gr pa mo sg tn) → ∀ ls : Array Slot, lv_has ls 3 [(0, .ref (ad 8)), (1, .int (nI Z)), (2, .int (nI i))] → W pR l eR (rmF 2 0 0) sR mR aR bR tR cR H locs 0 0 QR (F0 mR 2 ls []) := by
    intro fu
    induction fu with
    | zero =>
      intro i hi hf hfu
      exact absurd hfu (Nat.not_lt_zero _)
    | succ fu ih_2 =>
      intro i hi hf hfu H locs hI ls hl
      refine lv_iload_n hxR hbR dX2_best_2 rfl (lv_at hl 2 rfl) ?_
      refine lv_aload_n hxR hbR dX2_best_3 rfl (lv_at hl 0 rfl) ?_
      refine r_get hxR hbR hts hown hK hI okX2 (ci := 2) rfl 0 gW_o 5 (by decide) q195 rfl (v := .int (nI L.length)) (al hc) dX2_best_4 ?_
      refine lv_icmp_ge (tgt := 58) hxR hbR dX2_best_7 (by decide) (fun c_7 => ?_) (fun c_7 => ?_)
      · skip
        have c_7 : L.length ≤ i := (n_le (a := L.length) (b := i) (by omega) (by omega)).mp c_7
        refine lv_iconst (v := 0) hxR hbR dX2_best_58 (by decide) ?_
        exact hret () 0 _ _ _ _ _ _ dX2_best_59 hI (by show 0 = nI (bestL L Z L); rw [← hf, List.drop_eq_nil_of_le (by omega)]; rfl) (Nat.le_of_ble_eq_true rfl) (Nat.le_of_ble_eq_true rfl) rfl
      · skip
        have c_7 : i < L.length := Nat.lt_of_not_le (fun zz => c_7 ((n_le (a := L.length) (b := i) (by omega) (by omega)).mpr zz))
        refine lv_aload_n hxR hbR dX2_best_10 rfl (lv_at hl 0 rfl) ?_
        refine lv_iload_n hxR hbR dX2_best_11 rfl (lv_at hl 2 rfl) ?_
        refine lv_iload_n hxR hbR dX2_best_12 rfl (lv_at hl 1 rfl) ?_
        refine kVI (n := 2) (As := [.int (nI i), .int (nI Z)]) (rest := []) (fun w => w) hxR hbR hmlR hts hown hK hA hl.1 isCtx.id hI (c2_isOf l E ad iv gr pa mo sg tn L i Z hc (by first | omega | with_reducible assumption) (by first | omega | with_reducible assumption) (by first | omega | with_reducible assumption)) (lw_V q662 q663 q664 q83 q665) ⟨rfl, by decide +kernel⟩ 0 2 rfl rfl gW_o rfl (Nat.le_of_ble_eq_true rfl) (Nat.le_of_ble_eq_true rfl) ⟨Nat.le_of_ble_eq_true rfl, Nat.le_of_ble_eq_true rfl⟩ (Nat.le_of_ble_eq_true rfl) dX2_best_13 (fun r_13 u H locs hp hI hz => ?_)
        have hI : wI E AR sR H locs (gW E ad iv gr pa mo sg tn) := hI
        have hp : r_13 = b2i (decide (nd (L.getD i 0) Z = 0)) := hp
        have hr_13 := hp
        rcases b2i_cases hr_13 with ⟨c_13, rfl⟩ | ⟨c_13, rfl⟩
        · skip
          have c_13 : nd (L.getD i 0) Z = 0 := of_decide_eq_true c_13
          refine lv_if_eq (tgt := 52) hxR hbR dX2_best_16 (by decide) (fun c => absurd c (by decide)) (fun _ => ?_)
          have hndl := nd_le Z (L.getD i 0)
          have hmn := mostV_le hL.nz (nd Z (L.getD i 0))
          refine lv_iconst (v := 1) hxR hbR dX2_best_19 (by decide) ?_
          refine lv_aload_n hxR hbR dX2_best_20 rfl (lv_at hl 0 rfl) ?_
          refine r_get hxR hbR hts hown hK hI okX2 (ci := 2) rfl 0 gW_o 2 (by decide) q192 rfl (v := .ref (ad 2)) rfl dX2_best_21 ?_
          refine lv_iload_n hxR hbR dX2_best_24 rfl (lv_at hl 1 rfl) ?_
          refine lv_aload_n hxR hbR dX2_best_25 rfl (lv_at hl 0 rfl) ?_
          refine r_get hxR hbR hts hown hK hI okX2 (ci := 2) rfl 0 gW_o 0 (by decide) q188 rfl (v := .ref (ad 0)) rfl dX2_best_26 ?_
          refine lv_iload_n hxR hbR dX2_best_29 rfl (lv_at hl 2 rfl) ?_
          refine r_iald hxR hbR hK hI 1 (n := 35) (J := i) (f := gr) (v := nI (L.getD i 0)) (gW_g0 rfl) (by omega) (by decide) (hL.at (by omega)) dX2_best_30 ?_
          refine lv_iconst (v := (-1)) hxR hbR dX2_best_31 (by decide) ?_
          refine lv_ixor hxR hbR dX2_best_32 ?_
          refine lv_iand hxR hbR dX2_best_33 ?_
          refine lv_as (y := nI (nd Z (L.getD i 0))) (nb_nd Z (L.getD i 0)) ?_
          refine r_iald hxR hbR hK hI 3 (n := 128) (J := nd Z (L.getD i 0)) (f := mo) (v := nI (mostV L (nd Z (L.getD i 0)))) (gW_g2 rfl) (by omega) (by decide) (hM _ (by omega)) dX2_best_34 ?_
          refine lv_iadd hxR hbR dX2_best_35 ?_
          refine lv_as (y := nI (1 + (mostV L (nd Z (L.getD i 0))))) (nI_add 1 (mostV L (nd Z (L.getD i 0)))) ?_
          refine lv_aload_n hxR hbR dX2_best_36 rfl (lv_at hl 0 rfl) ?_
          refine r_get hxR hbR hts hown hK hI okX2 (ci := 2) rfl 0 gW_o 2 (by decide) q192 rfl (v := .ref (ad 2)) rfl dX2_best_37 ?_
          refine lv_iload_n hxR hbR dX2_best_40 rfl (lv_at hl 1 rfl) ?_
          refine r_iald hxR hbR hK hI 3 (n := 128) (J := Z) (f := mo) (v := nI (mostV L Z)) (gW_g2 rfl) (by omega) (by decide) (hM _ (by omega)) dX2_best_41 ?_
          refine lv_icmp_ne (tgt := 52) hxR hbR dX2_best_42 (by decide) (fun c_42 => ?_) (fun c_42 => ?_)
          · skip
            have c_42 : ¬ (1 + (mostV L (nd Z (L.getD i 0)))) = (mostV L Z) := fun zz => c_42 ((n_eq (a := (1 + (mostV L (nd Z (L.getD i 0))))) (b := (mostV L Z)) (by omega) (by omega)).mpr zz)
            refine lv_iinc (v := nI (i + 1)) (lv' := [(2, .int (nI (i + 1))), (0, .ref (ad 8)), (1, .int (nI Z))]) hxR hbR dX2_best_52 hl (k := 2) rfl (show nI i + 1 = nI (i + 1) from nI_add _ 1) (by decide) rfl (fun ls hl => ?_)
            refine lv_goto (tgt := 2) hxR hbR dX2_best_55 (by decide) ?_
            exact ih_2 (i + 1) (by first | omega | with_reducible assumption) (by rw [← hf, dropD (i := i) (by omega), bestL]; first | rw [if_neg (fun q => c_13 q.1)] | rw [if_neg (fun q => c_42 (by omega))]) (by omega) _ _ hI _ (lv_sub hl [1, 2, 0] rfl)
          · skip
            have c_42 : (1 + (mostV L (nd Z (L.getD i 0)))) = (mostV L Z) := (n_eq (a := (1 + (mostV L (nd Z (L.getD i 0))))) (b := (mostV L Z)) (by omega) (by omega)).mp c_42
            refine lv_aload_n hxR hbR dX2_best_45 rfl (lv_at hl 0 rfl) ?_
            refine r_get hxR hbR hts hown hK hI okX2 (ci := 2) rfl 0 gW_o 0 (by decide) q188 rfl (v := .ref (ad 0)) rfl dX2_best_46 ?_
            refine lv_iload_n hxR hbR dX2_best_49 rfl (lv_at hl 2 rfl) ?_
            refine r_iald hxR hbR hK hI 1 (n := 35) (J := i) (f := gr) (v := nI (L.getD i 0)) (gW_g0 rfl) (by omega) (by decide) (hL.at (by omega)) dX2_best_50 ?_
            exact hret () (nI (L.getD i 0)) _ _ _ _ _ _ dX2_best_51 hI (by show (nI (L.getD i 0)) = nI (bestL L Z L); rw [← hf, dropD (i := i) (by omega), bestL, if_pos ⟨c_13, by omega⟩]) (Nat.le_of_ble_eq_true rfl) (Nat.le_of_ble_eq_true rfl) rfl
        · skip
          have c_13 : ¬ nd (L.getD i 0) Z = 0 := of_decide_eq_false c_13
          refine lv_if_eq (tgt := 52) hxR hbR dX2_best_16 (by decide) (fun _ => ?_) (fun c => absurd c (by decide))
          refine lv_iinc (v := nI (i + 1)) (lv' := [(2, .int (nI (i + 1))), (0, .ref (ad 8)), (1, .int (nI Z))]) hxR hbR dX2_best_52 hl (k := 2) rfl (show nI i + 1 = nI (i + 1) from nI_add _ 1) (by decide) rfl (fun ls hl => ?_)
          refine lv_goto (tgt := 2) hxR hbR dX2_best_55 (by decide) ?_
          exact ih_2 (i + 1) (by first | omega | with_reducible assumption) (by rw [← hf, dropD (i := i) (by omega), bestL]; first | rw [if_neg (fun q => c_13 q.1)] | rw [if_neg (fun q => c_42 (by omega))]) (by omega) _ _ hI _ (lv_sub hl [1, 2, 0] rfl)
  exact lp_2 _ 0 (by first | omega | with_reducible assumption) rfl (Nat.lt_succ_self _) _ _ hI _ (lv_sub hl [1, 2, 0] rfl)
