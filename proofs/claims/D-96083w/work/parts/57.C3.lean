theorem c2_adds (l : Launch) (E : En) : ∀ (r : Nat) (ad : Nat → Nat) (iv : Nat → Int32) (gr : Nat → Int32) (pa : Nat → Int32) (mo : Nat → Int32) (sg : Nat → Int32) (adn : Nat → Nat) (ivn : Nat → Int32) (hrn : Nat → Int32) (csn : Nat → Int32) (K : Nat → Nat → Int32) (n st Z Fr My k c : Nat) (hc : iv 5 = nI c) (hn : ivn 3 = nI n) (hst : ivn 4 = nI st) (hn7 : n ≤ 7) (hs4 : st ≤ 4) (hsym : kSym K n) (hsg : ∀ p, p < n → sg p = nI (strS K p n)) (hr : r = n - Fr) (hFr : Fr ≤ n) (hZ : Z < 2 ^ Fr) (hbk : bitsN Z 8 = k) (hk : k ≤ st) (hMy : My < 128) (hM : mayM K n Z My Fr) (hcap : c + chs r (st - k) ≤ 35), CtV l E yX2_adds cX2_adds 5 (r + 3) 0 0 [.ref (ad 8), .int (nI Z), .int (nI Fr), .int (nI My)] (gW E ad iv gr pa mo sg (some (adn 10)) ++ (tW E adn ivn hrn csn (sK K))) (fun (u : Unit) => True) (fun (u : Unit) => gW E ad (va_up iv 5 (nI (c + (gF (okM K) n st r Z k).length))) (wrL gr c (gF (okM K) n st r Z k)) (wrL pa c ((gF (okM K) n st r Z k).map pairN)) mo sg (some (adn 10)) ++ (tW E adn ivn hrn csn (sK K))) := by
  intro r
  induction r using Nat.strongRecOn with
  | _ r ih =>
    intro ad iv gr pa mo sg adn ivn hrn csn K n st Z Fr My k c hc hn hst hn7 hs4 hsym hsg hr hFr hZ hbk hk hMy hM hcap
    have hZ7 : 2 ^ Fr ≤ 2 ^ 7 := Nat.pow_le_pow_right (by decide) (by omega)
    refine CtV.of (by decide +kernel) (Nat.le_of_ble_eq_true rfl) ?_
    intro pR eR sR mR aR bR tR cR AR ls QR hxR hbR hmlR hts hown hlk hnm hA hK hI hl hret
    have hl : lv_has ls 5 [(0, .ref (ad 8)), (1, .int (nI Z)), (2, .int (nI Fr)), (3, .int (nI My))] := hl
    refine lv_iload_n hxR hbR dX2_adds_0 rfl (lv_at hl 1 rfl) ?_
    refine kSI (n := 1) (As := [.int (nI Z)]) (rest := []) (fun w => w ++ (gW E ad iv gr pa mo sg (some (adn 10)) ++ (tW E adn ivn hrn csn (sK K)))) hxR hbR hmlR hts hown hK hA hl.1 (isCtx.suf _) hI (c10_bitCount l E  Z (by omega)) (lw_S q650 q651 q105 q652) (by decide +kernel) rfl (by omega) (Nat.le_of_ble_eq_true rfl) ⟨Nat.le_of_ble_eq_true rfl, Nat.le_of_ble_eq_true rfl⟩ (Nat.le_of_ble_eq_true rfl) dX2_adds_1 (fun r_1 u H locs hp hI hz => ?_)
    have hI : wI E AR sR H locs (gW E ad iv gr pa mo sg (some (adn 10)) ++ (tW E adn ivn hrn csn (sK K))) := hI
    have hp : r_1 = nI (bitsN Z 8) := hp
    have hr_1 := hp
    subst hr_1
    refine lv_as (y := nI k) (by rw [hbk]) ?_
    refine lv_aload_n hxR hbR dX2_adds_4 rfl (lv_at hl 0 rfl) ?_
    refine r_get hxR hbR hts hown hK hI okX2 (ci := 2) rfl 0 (he_l gW_o) 4 (by decide) q194 rfl (v := .ref (adn 10)) rfl dX2_adds_5 ?_
    refine r_get hxR hbR hts hown hK hI okX1 (ci := 1) rfl (5 + 0) (he_r (Nat.le_of_ble_eq_true rfl) (Nat.le_of_ble_eq_true rfl) tW_o) 4 (by decide) q146 rfl (v := .int (nI st)) (al hst) dX2_adds_8 ?_
    refine lv_icmp_ne (tgt := 48) hxR hbR dX2_adds_11 (by decide) (fun c_11 => ?_) (fun c_11 => ?_)
    · skip
      have c_11 : ¬ k = st := fun zz => c_11 ((n_eq (a := k) (b := st) (by omega) (by omega)).mpr zz)
      refine lv_iload_n hxR hbR dX2_adds_48 rfl (lv_at hl 2 rfl) ?_
      refine lv_istore (lv' := [(4, .int (nI Fr)), (0, .ref (ad 8)), (1, .int (nI Z)), (2, .int (nI Fr)), (3, .int (nI My))]) hxR hbR dX2_adds_49 hl (by decide) rfl (fun ls hl => ?_)
      have hI := wI_w (ws' := gW E ad (va_up iv 5 (nI c)) gr pa mo sg (some (adn 10)) ++ (tW E adn ivn hrn csn (sK K))) (by rw [va_up_id (f := iv) (k := 5) (v := nI c) hc]) hI
      have lp_51 : ∀ (fu : Nat) (p : Nat) (cc : Nat) (g : Nat → Int32) (pg : Nat → Int32) (pre : List Nat), (Fr ≤ p) → (p ≤ n) → (cc = c + pre.length) → (g = wrL gr c pre) → (pg = wrL pa c (pre.map pairN)) → (pre ++ gF (okM K) n st (n - p) Z k = (gF (okM K) n st r Z k)) → (cc + chs (n - p) (st - k) ≤ 35) → n - p < fu → ∀ (H : Heap) (locs : List Loc), wI E AR sR H locs (gW E ad (va_up iv 5 (nI cc)) g pg mo sg (some (adn 10)) ++ (tW E adn ivn hrn csn (sK K))) → ∀ ls : Array Slot, lv_has ls 5 [(0, .ref (ad 8)), (1, .int (nI Z)), (2, .int (nI Fr)), (3, .int (nI My)), (4, .int (nI p))] → W pR l eR (rmF (r + 3) 0 0) sR mR aR bR tR cR H locs 0 0 QR (F0 mR 51 ls []) := by
        intro fu
        induction fu with
        | zero =>
          intro p cc g pg pre hp0 hpn hcc hg hpg hpre hcap2 hfu
          exact absurd hfu (Nat.not_lt_zero _)
        | succ fu ih_51 =>
          intro p cc g pg pre hp0 hpn hcc hg hpg hpre hcap2 hfu H locs hI ls hl
          refine lv_iload hxR hbR dX2_adds_51 (lv_at hl 4 rfl) ?_
          refine lv_aload_n hxR hbR dX2_adds_53 rfl (lv_at hl 0 rfl) ?_
          refine r_get hxR hbR hts hown hK hI okX2 (ci := 2) rfl 0 (he_l gW_o) 4 (by decide) q194 rfl (v := .ref (adn 10)) rfl dX2_adds_54 ?_
          refine r_get hxR hbR hts hown hK hI okX1 (ci := 1) rfl (5 + 0) (he_r (Nat.le_of_ble_eq_true rfl) (Nat.le_of_ble_eq_true rfl) tW_o) 3 (by decide) q140 rfl (v := .int (nI n)) (al hn) dX2_adds_57 ?_
          refine lv_icmp_ge (tgt := 101) hxR hbR dX2_adds_60 (by decide) (fun c_60 => ?_) (fun c_60 => ?_)
          · skip
            have c_60 : n ≤ p := (n_le (a := n) (b := p) (by omega) (by omega)).mp c_60
            have hI : wI E AR sR H locs (gW E ad (va_up iv 5 (nI (c + (gF (okM K) n st r Z k).length))) (wrL gr c (gF (okM K) n st r Z k)) (wrL pa c ((gF (okM K) n st r Z k).map pairN)) mo sg (some (adn 10)) ++ (tW E adn ivn hrn csn (sK K))) := by rw [show p = n by omega, Nat.sub_self, gF_0 _ c_11, List.append_nil] at hpre; rw [← hpre, ← hg, ← hpg, ← hcc]; exact hI
            exact hret () _ _ _ _ _ _ dX2_adds_101 hI (by show True; trivial) (Nat.le_of_ble_eq_true rfl) (Nat.le_of_ble_eq_true rfl)
          · skip
            have c_60 : p < n := Nat.lt_of_not_le (fun zz => c_60 ((n_le (a := n) (b := p) (by omega) (by omega)).mpr zz))
            have he := chs_s (n := n) (st := st) (k := k) (p := p) c_60 (by omega)
            refine lv_iload_n hxR hbR dX2_adds_63 rfl (lv_at hl 3 rfl) ?_
            refine lv_iload hxR hbR dX2_adds_64 (lv_at hl 4 rfl) ?_
            refine kSNI (n := 2) (As := [.int (nI My), .int (nI p)]) (rest := []) (fun w => w ++ (gW E ad (va_up iv 5 (nI cc)) g pg mo sg (some (adn 10)) ++ (tW E adn ivn hrn csn (sK K)))) hxR hbR hmlR hts hown hK hA hl.1 (isCtx.suf _) hI (c0_has l E  My p (by first | omega | with_reducible assumption) (by first | omega | with_reducible assumption)) (host := RX0) q661 q81 (by decide) q660 (by decide +kernel) rfl (by omega) (Nat.le_of_ble_eq_true rfl) ⟨Nat.le_of_ble_eq_true rfl, Nat.le_of_ble_eq_true rfl⟩ (Nat.le_of_ble_eq_true rfl) dX2_adds_66 (fun r_66 u H locs hp hI hz => ?_)
            have hI : wI E AR sR H locs (gW E ad (va_up iv 5 (nI cc)) g pg mo sg (some (adn 10)) ++ (tW E adn ivn hrn csn (sK K))) := hI
            have hp : r_66 = b2i (My.testBit p) := hp
            have hr_66 := hp
            rcases b2i_cases hr_66 with ⟨c_66, rfl⟩ | ⟨c_66, rfl⟩
            · skip
              have c_66 : My.testBit p = true := c_66
              have hok := (hM p hp0 c_60).mp c_66
              refine lv_if_eq (tgt := 95) hxR hbR dX2_adds_69 (by decide) (fun c => absurd c (by decide)) (fun _ => ?_)
              refine lv_aload_n hxR hbR dX2_adds_72 rfl (lv_at hl 0 rfl) ?_
              refine lv_iload_n hxR hbR dX2_adds_73 rfl (lv_at hl 1 rfl) ?_
              refine lv_iconst (v := 1) hxR hbR dX2_adds_74 (by decide) ?_
              refine lv_iload hxR hbR dX2_adds_75 (lv_at hl 4 rfl) ?_
              refine lv_ishl hxR hbR dX2_adds_77 ?_
              refine lv_as (y := nI (2 ^ p)) (nb_shl p (by omega)) ?_
              refine lv_ior hxR hbR dX2_adds_78 ?_
              refine lv_as (y := nI (Z ||| (2 ^ p))) (nb_or Z (2 ^ p)) ?_
              refine lv_iload hxR hbR dX2_adds_79 (lv_at hl 4 rfl) ?_
              refine lv_iconst (v := 1) hxR hbR dX2_adds_81 (by decide) ?_
              refine lv_iadd hxR hbR dX2_adds_82 ?_
              refine lv_as (y := nI (p + 1)) (nI_add p 1) ?_
              refine lv_iload_n hxR hbR dX2_adds_83 rfl (lv_at hl 3 rfl) ?_
              refine lv_aload_n hxR hbR dX2_adds_84 rfl (lv_at hl 0 rfl) ?_
              refine r_get hxR hbR hts hown hK hI okX2 (ci := 2) rfl 0 (he_l gW_o) 3 (by decide) q193 rfl (v := .ref (ad 3)) rfl dX2_adds_85 ?_
              refine lv_iload hxR hbR dX2_adds_88 (lv_at hl 4 rfl) ?_
              refine r_iald hxR hbR hK hI 4 (n := 7) (J := p) (f := sg) (v := nI (strS K p n)) (he_l (gW_g3 rfl)) (by omega) (by decide) (hsg _ (by omega)) dX2_adds_90 ?_
              refine lv_iand hxR hbR dX2_adds_91 ?_
              refine lv_as (y := nI (My &&& (strS K p n))) (nb_and My (strS K p n)) ?_
              refine kVV (n := 3) (As := [.int (nI (Z ||| (2 ^ p))), .int (nI (p + 1)), .int (nI (My &&& (strS K p n)))]) (rest := []) (fun w => w) hxR hbR hmlR hts hown hK hA hl.1 isCtx.id hI (ih (n - (p + 1)) (by omega) ad (va_up iv 5 (nI cc)) g pg mo sg adn ivn hrn csn K n st (Z ||| (2 ^ p)) (p + 1) (My &&& (strS K p n)) (k + 1) cc va_up_s hn hst (by first | omega | with_reducible assumption) (by first | omega | with_reducible assumption) (by first | omega | with_reducible assumption) (by first | omega | with_reducible assumption) rfl (by first | omega | with_reducible assumption) (or_lt (Nat.lt_of_lt_of_le hZ (Nat.pow_le_pow_right (by decide) (by omega))) (Nat.pow_lt_pow_right (by decide) (by omega))) (by rw [bitsN_new (Nat.lt_of_lt_of_le hZ (Nat.pow_le_pow_right (by decide) hp0)) 8 (by omega), hbk]) (by first | omega | with_reducible assumption) (Nat.lt_of_le_of_lt Nat.and_le_left hMy) (mayM_s hsym hM c_60 hp0) (by omega)) (lw_V q646 q648 qs6 q83 q649) ⟨rfl, by decide +kernel⟩ 0 2 rfl rfl (he_l gW_o) rfl (by omega) (Nat.le_of_ble_eq_true rfl) ⟨Nat.le_of_ble_eq_true rfl, Nat.le_of_ble_eq_true rfl⟩ (Nat.le_of_ble_eq_true rfl) dX2_adds_92 (fun u H locs hp hI hz => ?_)
              have hI : wI E AR sR H locs (gW E ad (va_up (va_up iv 5 (nI cc)) 5 (nI (cc + (gF (okM K) n st (n - (p + 1)) (Z ||| (2 ^ p)) (k + 1)).length))) (wrL g cc (gF (okM K) n st (n - (p + 1)) (Z ||| (2 ^ p)) (k + 1))) (wrL pg cc ((gF (okM K) n st (n - (p + 1)) (Z ||| (2 ^ p)) (k + 1)).map pairN)) mo sg (some (adn 10)) ++ (tW E adn ivn hrn csn (sK K))) := hI
              have hI := wI_w (ws' := gW E ad (va_up iv 5 (nI (cc + (gF (okM K) n st (n - (p + 1)) (Z ||| (2 ^ p)) (k + 1)).length))) (wrL g cc (gF (okM K) n st (n - (p + 1)) (Z ||| (2 ^ p)) (k + 1))) (wrL pg cc ((gF (okM K) n st (n - (p + 1)) (Z ||| (2 ^ p)) (k + 1)).map pairN)) mo sg (some (adn 10)) ++ (tW E adn ivn hrn csn (sK K))) (by rw [(show (va_up iv 5 (nI (cc + (gF (okM K) n st (n - (p + 1)) (Z ||| (2 ^ p)) (k + 1)).length))) = (va_up (va_up iv 5 (nI cc)) 5 (nI (cc + (gF (okM K) n st (n - (p + 1)) (Z ||| (2 ^ p)) (k + 1)).length))) from (up_0).symm)]) hI
              have hI : wI E AR sR H locs (gW E ad (va_up iv 5 (nI (cc + (gF (okM K) n st (n - (p + 1)) (Z ||| (2 ^ p)) (k + 1)).length))) (wrL g cc (gF (okM K) n st (n - (p + 1)) (Z ||| (2 ^ p)) (k + 1))) (wrL pg cc ((gF (okM K) n st (n - (p + 1)) (Z ||| (2 ^ p)) (k + 1)).map pairN)) mo sg (some (adn 10)) ++ (tW E adn ivn hrn csn (sK K))) := hI
              refine lv_iinc (v := nI (p + 1)) (lv' := [(4, .int (nI (p + 1))), (0, .ref (ad 8)), (1, .int (nI Z)), (2, .int (nI Fr)), (3, .int (nI My))]) hxR hbR dX2_adds_95 hl (k := 4) rfl (show nI p + 1 = nI (p + 1) from nI_add _ 1) (by decide) rfl (fun ls hl => ?_)
              refine lv_goto (tgt := 51) hxR hbR dX2_adds_98 (by decide) ?_
              exact ih_51 (p + 1) (cc + (gF (okM K) n st (n - (p + 1)) (Z ||| (2 ^ p)) (k + 1)).length) (wrL g cc (gF (okM K) n st (n - (p + 1)) (Z ||| (2 ^ p)) (k + 1))) (wrL pg cc ((gF (okM K) n st (n - (p + 1)) (Z ||| (2 ^ p)) (k + 1)).map pairN)) (pre ++ gF (okM K) n st (n - (p + 1)) (Z ||| 2 ^ p) (k + 1)) (by first | omega | with_reducible assumption) (by first | omega | with_reducible assumption) (by first | exact hcc | (rw [hcc, List.length_append, Nat.add_assoc])) (by first | exact hg | rw [hg, hcc, wrL_app]) (by first | exact hpg | (rw [hpg, hcc, List.map_append]; have e9 := wrL_app pa c (pre.map pairN) ((gF (okM K) n st (n - (p + 1)) (Z ||| 2 ^ p) (k + 1)).map pairN); rw [List.length_map] at e9; exact e9)) (by first | (rw [← hpre, gF_nn c_60 c_11 hok]) | (rw [← hpre, gF_ny c_60 c_11 hok, List.append_assoc])) (by first | omega | (have := gF_len (okM K) n st (n - (p + 1)) (Z ||| 2 ^ p) (k + 1) (by omega); omega)) (by omega) _ _ hI _ (lv_sub hl [1, 2, 3, 4, 0] rfl)
            · skip
              have c_66 : My.testBit p = false := c_66
              have hok : okM K Z p = false := by cases hh : okM K Z p; rfl; rw [(hM p hp0 c_60).mpr hh] at c_66; cases c_66
              refine lv_if_eq (tgt := 95) hxR hbR dX2_adds_69 (by decide) (fun _ => ?_) (fun c => absurd c (by decide))
              refine lv_iinc (v := nI (p + 1)) (lv' := [(4, .int (nI (p + 1))), (0, .ref (ad 8)), (1, .int (nI Z)), (2, .int (nI Fr)), (3, .int (nI My))]) hxR hbR dX2_adds_95 hl (k := 4) rfl (show nI p + 1 = nI (p + 1) from nI_add _ 1) (by decide) rfl (fun ls hl => ?_)
              refine lv_goto (tgt := 51) hxR hbR dX2_adds_98 (by decide) ?_
              exact ih_51 (p + 1) cc g pg pre (by first | omega | with_reducible assumption) (by first | omega | with_reducible assumption) (by first | exact hcc | (rw [hcc, List.length_append, Nat.add_assoc])) (by first | exact hg | rw [hg, hcc, wrL_app]) (by first | exact hpg | (rw [hpg, hcc, List.map_append]; have e9 := wrL_app pa c (pre.map pairN) ((gF (okM K) n st (n - (p + 1)) (Z ||| 2 ^ p) (k + 1)).map pairN); rw [List.length_map] at e9; exact e9)) (by first | (rw [← hpre, gF_nn c_60 c_11 hok]) | (rw [← hpre, gF_ny c_60 c_11 hok, List.append_assoc])) (by first | omega | (have := gF_len (okM K) n st (n - (p + 1)) (Z ||| 2 ^ p) (k + 1) (by omega); omega)) (by omega) _ _ hI _ (lv_sub hl [1, 2, 3, 4, 0] rfl)
      exact lp_51 _ Fr c gr pa ([]) (by first | omega | with_reducible assumption) (by first | omega | with_reducible assumption) rfl (wrL_nil _ _).symm (wrL_nil _ _).symm (by rw [hr]; rfl) (by rw [← hr]; exact hcap) (Nat.lt_succ_self _) _ _ hI _ (lv_sub hl [1, 2, 3, 4, 0] rfl)
    · skip
      have c_11 : k = st := (n_eq (a := k) (b := st) (by omega) (by omega)).mp c_11
      have e1 : chs r (st - k) = 1 := by rw [c_11, Nat.sub_self]; cases r <;> rfl
      have e2 : (gF (okM K) n st r Z k) = [Z] := by rw [c_11]; exact gF_full _ _ _ _ _
      refine lv_aload_n hxR hbR dX2_adds_14 rfl (lv_at hl 0 rfl) ?_
      refine r_get hxR hbR hts hown hK hI okX2 (ci := 2) rfl 0 (he_l gW_o) 0 (by decide) q188 rfl (v := .ref (ad 0)) rfl dX2_adds_15 ?_
      refine lv_aload_n hxR hbR dX2_adds_18 rfl (lv_at hl 0 rfl) ?_
      refine r_get hxR hbR hts hown hK hI okX2 (ci := 2) rfl 0 (he_l gW_o) 5 (by decide) q195 rfl (v := .int (nI c)) (al hc) dX2_adds_19 ?_
      refine lv_iload_n hxR hbR dX2_adds_22 rfl (lv_at hl 1 rfl) ?_
      refine r_iast (ws1 := gW E ad iv (va_up gr c (nI Z)) pa mo sg (some (adn 10)) ++ (tW E adn ivn hrn csn (sK K))) hxR hbR hK hI 1 (n := 35) (J := c) (f := gr) (he_l (gW_g0 rfl)) (by omega) (by decide) (hw_l (Nat.le_of_ble_eq_true rfl) gW_a0) dX2_adds_23 (fun H locs hI => ?_)
      refine lv_aload_n hxR hbR dX2_adds_24 rfl (lv_at hl 0 rfl) ?_
      refine r_get hxR hbR hts hown hK hI okX2 (ci := 2) rfl 0 (he_l gW_o) 1 (by decide) q191 rfl (v := .ref (ad 1)) rfl dX2_adds_25 ?_
      refine lv_aload_n hxR hbR dX2_adds_28 rfl (lv_at hl 0 rfl) ?_
      refine r_get hxR hbR hts hown hK hI okX2 (ci := 2) rfl 0 (he_l gW_o) 5 (by decide) q195 rfl (v := .int (nI c)) (al hc) dX2_adds_29 ?_
      refine lv_iload_n hxR hbR dX2_adds_32 rfl (lv_at hl 1 rfl) ?_
      refine kSI (n := 1) (As := [.int (nI Z)]) (rest := [.int (nI c), .ref (ad 1)]) (fun w => w ++ (gW E ad iv (va_up gr c (nI Z)) pa mo sg (some (adn 10)) ++ (tW E adn ivn hrn csn (sK K)))) hxR hbR hmlR hts hown hK hA hl.1 (isCtx.suf _) hI (c2_pairsOf l E  Z (by omega)) (lw_S q656 q657 q83 q658) (by decide +kernel) rfl (by omega) (Nat.le_of_ble_eq_true rfl) ⟨Nat.le_of_ble_eq_true rfl, Nat.le_of_ble_eq_true rfl⟩ (Nat.le_of_ble_eq_true rfl) dX2_adds_33 (fun r_33 u H locs hp hI hz => ?_)
      have hI : wI E AR sR H locs (gW E ad iv (va_up gr c (nI Z)) pa mo sg (some (adn 10)) ++ (tW E adn ivn hrn csn (sK K))) := hI
      have hp : r_33 = nI (pairN Z) := hp
      have hr_33 := hp
      subst hr_33
      refine r_iast (ws1 := gW E ad iv (va_up gr c (nI Z)) (va_up pa c (nI (pairN Z))) mo sg (some (adn 10)) ++ (tW E adn ivn hrn csn (sK K))) hxR hbR hK hI 2 (n := 35) (J := c) (f := pa) (he_l (gW_g1 rfl)) (by omega) (by decide) (hw_l (Nat.le_of_ble_eq_true rfl) gW_a1) dX2_adds_36 (fun H locs hI => ?_)
      refine lv_aload_n hxR hbR dX2_adds_37 rfl (lv_at hl 0 rfl) ?_
      refine lv_dup hxR hbR dX2_adds_38 rfl ?_
      refine r_get hxR hbR hts hown hK hI okX2 (ci := 2) rfl 0 (he_l gW_o) 5 (by decide) q195 rfl (v := .int (nI c)) (al hc) dX2_adds_39 ?_
      refine lv_iconst (v := 1) hxR hbR dX2_adds_42 (by decide) ?_
      refine lv_iadd hxR hbR dX2_adds_43 ?_
      refine lv_as (y := nI (c + 1)) (nI_add c 1) ?_
      refine r_put (v := .int (nI (c + 1))) (ws1 := gW E ad (va_up iv 5 (nI (c + 1))) (va_up gr c (nI Z)) (va_up pa c (nI (pairN Z))) mo sg (some (adn 10)) ++ (tW E adn ivn hrn csn (sK K))) hxR hbR hts hown hK hI okX2 (ci := 2) rfl 0 (he_l gW_o) 5 (by decide) q195 rfl rfl rfl rfl (Nat.le_of_ble_eq_true rfl) (hw_l (Nat.le_of_ble_eq_true rfl) gW_i5) dX2_adds_44 (fun H locs hI => ?_)
      have hI : wI E AR sR H locs (gW E ad (va_up iv 5 (nI (c + (gF (okM K) n st r Z k).length))) (wrL gr c (gF (okM K) n st r Z k)) (wrL pa c ((gF (okM K) n st r Z k).map pairN)) mo sg (some (adn 10)) ++ (tW E adn ivn hrn csn (sK K))) := by rw [e2, ← wrL_one, show [Z].map pairN = [pairN Z] from rfl, ← wrL_one]; exact hI
      exact hret () _ _ _ _ _ _ dX2_adds_47 hI (by show True; trivial) (Nat.le_of_ble_eq_true rfl) (Nat.le_of_ble_eq_true rfl)

theorem c2_costOf (l : Launch) (E : En) (ad : Nat → Nat) (iv : Nat → Int32) (gr : Nat → Int32) (pa : Nat → Int32) (mo : Nat → Int32) (sg : Nat → Int32) (adn : Nat → Nat) (ivn : Nat → Int32) (hrn : Nat → Int32) (csn : Nat → Int32) (K : Nat → Nat → Int32) (n Z : Nat) (hn : ivn 3 = nI n) (hn7 : n ≤ 7) (hZ : Z < 2 ^ 31) : CtI l E yX2_costOf cX2_costOf 4 .int 1 0 0 [.ref (ad 8), .int (nI Z)] (gW E ad iv gr pa mo sg (some (adn 10)) ++ (tW E adn ivn hrn csn (sK K))) (fun (r : Int32) (u : Unit) => r = sumS csn Z n) (fun (u : Unit) => gW E ad iv gr pa mo sg (some (adn 10)) ++ (tW E adn ivn hrn csn (sK K))) := by
  refine CtI.of (by decide +kernel) (Nat.le_of_ble_eq_true rfl) ?_
  intro pR eR sR mR aR bR tR cR AR ls QR hxR hbR hmlR hts hown hlk hnm hA hK hI hl hret
  have hl : lv_has ls 4 [(0, .ref (ad 8)), (1, .int (nI Z))] := hl
  refine lv_iconst (v := 0) hxR hbR dX2_costOf_0 (by decide) ?_
  refine lv_istore_n (lv' := [(2, .int 0), (0, .ref (ad 8)), (1, .int (nI Z))]) hxR hbR dX2_costOf_1 rfl hl (by decide) rfl (fun ls hl => ?_)
  refine lv_iconst (v := 0) hxR hbR dX2_costOf_2 (by decide) ?_
  refine lv_istore_n (lv' := [(3, .int 0), (2, .int 0), (0, .ref (ad 8)), (1, .int (nI Z))]) hxR hbR dX2_costOf_3 rfl hl (by decide) rfl (fun ls hl => ?_)
  have lp_4 : ∀ (fu : Nat) (a : Int32) (i : Nat), (i ≤ n) → (a = sumS csn Z i) → n - i < fu → ∀ (H : Heap) (locs : List Loc), wI E AR sR H locs (gW E ad iv gr pa mo sg (some (adn 10)) ++ (tW E adn ivn hrn csn (sK K))) → ∀ ls : Array Slot, lv_has ls 4 [(0, .ref (ad 8)), (1, .int (nI Z)), (2, .int a), (3, .int (nI i))] → W pR l eR (rmF 1 0 0) sR mR aR bR tR cR H locs 0 0 QR (F0 mR 4 ls []) := by
    intro fu
    induction fu with
    | zero =>
      intro a i hi ha hfu
      exact absurd hfu (Nat.not_lt_zero _)
    | succ fu ih_4 =>
      intro a i hi ha hfu H locs hI ls hl
      refine lv_iload_n hxR hbR dX2_costOf_4 rfl (lv_at hl 3 rfl) ?_
      refine lv_aload_n hxR hbR dX2_costOf_5 rfl (lv_at hl 0 rfl) ?_
      refine r_get hxR hbR hts hown hK hI okX2 (ci := 2) rfl 0 (he_l gW_o) 4 (by decide) q194 rfl (v := .ref (adn 10)) rfl dX2_costOf_6 ?_
      refine r_get hxR hbR hts hown hK hI okX1 (ci := 1) rfl (5 + 0) (he_r (Nat.le_of_ble_eq_true rfl) (Nat.le_of_ble_eq_true rfl) tW_o) 3 (by decide) q140 rfl (v := .int (nI n)) (al hn) dX2_costOf_9 ?_
      refine lv_icmp_ge (tgt := 45) hxR hbR dX2_costOf_12 (by decide) (fun c_12 => ?_) (fun c_12 => ?_)
      · skip
        have c_12 : n ≤ i := (n_le (a := n) (b := i) (by omega) (by omega)).mp c_12
        refine lv_iload_n hxR hbR dX2_costOf_45 rfl (lv_at hl 2 rfl) ?_
        exact hret () a _ _ _ _ _ _ dX2_costOf_46 hI (by show a = sumS csn Z n; rw [ha, show i = n by omega]) (Nat.le_of_ble_eq_true rfl) (Nat.le_of_ble_eq_true rfl) rfl
      · skip
        have c_12 : i < n := Nat.lt_of_not_le (fun zz => c_12 ((n_le (a := n) (b := i) (by omega) (by omega)).mpr zz))
        refine lv_iload_n hxR hbR dX2_costOf_15 rfl (lv_at hl 2 rfl) ?_
        refine lv_iload_n hxR hbR dX2_costOf_16 rfl (lv_at hl 1 rfl) ?_
        refine lv_iload_n hxR hbR dX2_costOf_17 rfl (lv_at hl 3 rfl) ?_
        refine kSNI (n := 2) (As := [.int (nI Z), .int (nI i)]) (rest := [.int a]) (fun w => w ++ (gW E ad iv gr pa mo sg (some (adn 10)) ++ (tW E adn ivn hrn csn (sK K)))) hxR hbR hmlR hts hown hK hA hl.1 (isCtx.suf _) hI (c0_has l E  Z i (by first | omega | with_reducible assumption) (by first | omega | with_reducible assumption)) (host := RX0) q661 q81 (by decide) q660 (by decide +kernel) rfl (Nat.le_of_ble_eq_true rfl) (Nat.le_of_ble_eq_true rfl) ⟨Nat.le_of_ble_eq_true rfl, Nat.le_of_ble_eq_true rfl⟩ (Nat.le_of_ble_eq_true rfl) dX2_costOf_18 (fun r_18 u H locs hp hI hz => ?_)
        have hI : wI E AR sR H locs (gW E ad iv gr pa mo sg (some (adn 10)) ++ (tW E adn ivn hrn csn (sK K))) := hI
        have hp : r_18 = b2i (Z.testBit i) := hp
        have hr_18 := hp
        rcases b2i_cases hr_18 with ⟨c_18, rfl⟩ | ⟨c_18, rfl⟩
        · skip
          have c_18 : Z.testBit i = true := c_18
          refine lv_if_eq (tgt := 36) hxR hbR dX2_costOf_21 (by decide) (fun c => absurd c (by decide)) (fun _ => ?_)
          refine lv_aload_n hxR hbR dX2_costOf_24 rfl (lv_at hl 0 rfl) ?_
          refine r_get hxR hbR hts hown hK hI okX2 (ci := 2) rfl 0 (he_l gW_o) 4 (by decide) q194 rfl (v := .ref (adn 10)) rfl dX2_costOf_25 ?_
          refine r_get hxR hbR hts hown hK hI okX1 (ci := 1) rfl (5 + 0) (he_r (Nat.le_of_ble_eq_true rfl) (Nat.le_of_ble_eq_true rfl) tW_o) 1 (by decide) q136 rfl (v := .ref (adn 1)) rfl dX2_costOf_28 ?_
          refine lv_iload_n hxR hbR dX2_costOf_31 rfl (lv_at hl 3 rfl) ?_
          refine r_iald hxR hbR hK hI (5 + 2) (n := 7) (J := i) (f := csn) (v := csn i) (he_r (Nat.le_of_ble_eq_true rfl) (Nat.le_of_ble_eq_true rfl) (tW_g1 rfl)) (by omega) (by decide) rfl dX2_costOf_32 ?_
          refine lv_goto (tgt := 37) hxR hbR dX2_costOf_33 (by decide) ?_
          refine lv_iadd hxR hbR dX2_costOf_37 ?_
          refine lv_istore_n (lv' := [(2, .int (a + (csn i))), (0, .ref (ad 8)), (1, .int (nI Z)), (3, .int (nI i))]) hxR hbR dX2_costOf_38 rfl hl (by decide) rfl (fun ls hl => ?_)
          refine lv_iinc (v := nI (i + 1)) (lv' := [(3, .int (nI (i + 1))), (2, .int (a + (csn i))), (0, .ref (ad 8)), (1, .int (nI Z))]) hxR hbR dX2_costOf_39 hl (k := 3) rfl (show nI i + 1 = nI (i + 1) from nI_add _ 1) (by decide) rfl (fun ls hl => ?_)
          refine lv_goto (tgt := 4) hxR hbR dX2_costOf_42 (by decide) ?_
          exact ih_4 (a + (csn i)) (i + 1) (by first | omega | with_reducible assumption) (by rw [ha]; first | exact (sumS_y c_18).symm | exact (sumS_n c_18).symm) (by omega) _ _ hI _ (lv_sub hl [2, 3, 1, 0] rfl)
        · skip
          have c_18 : Z.testBit i = false := c_18
          refine lv_if_eq (tgt := 36) hxR hbR dX2_costOf_21 (by decide) (fun _ => ?_) (fun c => absurd c (by decide))
          refine lv_iconst (v := 0) hxR hbR dX2_costOf_36 (by decide) ?_
          refine lv_iadd hxR hbR dX2_costOf_37 ?_
          refine lv_istore_n (lv' := [(2, .int (a + 0)), (0, .ref (ad 8)), (1, .int (nI Z)), (3, .int (nI i))]) hxR hbR dX2_costOf_38 rfl hl (by decide) rfl (fun ls hl => ?_)
          refine lv_iinc (v := nI (i + 1)) (lv' := [(3, .int (nI (i + 1))), (2, .int (a + 0)), (0, .ref (ad 8)), (1, .int (nI Z))]) hxR hbR dX2_costOf_39 hl (k := 3) rfl (show nI i + 1 = nI (i + 1) from nI_add _ 1) (by decide) rfl (fun ls hl => ?_)
          refine lv_goto (tgt := 4) hxR hbR dX2_costOf_42 (by decide) ?_
          exact ih_4 (a + 0) (i + 1) (by first | omega | with_reducible assumption) (by rw [ha]; first | exact (sumS_y c_18).symm | exact (sumS_n c_18).symm) (by omega) _ _ hI _ (lv_sub hl [2, 3, 1, 0] rfl)
  exact lp_4 _ 0 0 (by first | omega | with_reducible assumption) rfl (Nat.lt_succ_self _) _ _ hI _ (lv_sub hl [2, 3, 1, 0] rfl)

theorem c2_strangersOf (l : Launch) (E : En) (ad : Nat → Nat) (iv : Nat → Int32) (gr : Nat → Int32) (pa : Nat → Int32) (mo : Nat → Int32) (sg : Nat → Int32) (adn : Nat → Nat) (ivn : Nat → Int32) (hrn : Nat → Int32) (csn : Nat → Int32) (K : Nat → Nat → Int32) (n Z : Nat) (hn : ivn 3 = nI n) (hn7 : n ≤ 7) (hsg : ∀ p, p < n → sg p = nI (strS K p n)) (hZ : Z < 2 ^ 31) : CtI l E yX2_strangersOf cX2_strangersOf 4 .int 1 0 0 [.ref (ad 8), .int (nI Z)] (gW E ad iv gr pa mo sg (some (adn 10)) ++ (tW E adn ivn hrn csn (sK K))) (fun (r : Int32) (u : Unit) => r = sumS (msS K n) Z n) (fun (u : Unit) => gW E ad iv gr pa mo sg (some (adn 10)) ++ (tW E adn ivn hrn csn (sK K))) := by
  refine CtI.of (by decide +kernel) (Nat.le_of_ble_eq_true rfl) ?_
  intro pR eR sR mR aR bR tR cR AR ls QR hxR hbR hmlR hts hown hlk hnm hA hK hI hl hret
  have hl : lv_has ls 4 [(0, .ref (ad 8)), (1, .int (nI Z))] := hl
  refine lv_iconst (v := 0) hxR hbR dX2_strangersOf_0 (by decide) ?_
  refine lv_istore_n (lv' := [(2, .int 0), (0, .ref (ad 8)), (1, .int (nI Z))]) hxR hbR dX2_strangersOf_1 rfl hl (by decide) rfl (fun ls hl => ?_)
  refine lv_iconst (v := 0) hxR hbR dX2_strangersOf_2 (by decide) ?_
  refine lv_istore_n (lv' := [(3, .int 0), (2, .int 0), (0, .ref (ad 8)), (1, .int (nI Z))]) hxR hbR dX2_strangersOf_3 rfl hl (by decide) rfl (fun ls hl => ?_)
  have lp_4 : ∀ (fu : Nat) (a : Int32) (i : Nat), (i ≤ n) → (a = sumS (msS K n) Z i) → n - i < fu → ∀ (H : Heap) (locs : List Loc), wI E AR sR H locs (gW E ad iv gr pa mo sg (some (adn 10)) ++ (tW E adn ivn hrn csn (sK K))) → ∀ ls : Array Slot, lv_has ls 4 [(0, .ref (ad 8)), (1, .int (nI Z)), (2, .int a), (3, .int (nI i))] → W pR l eR (rmF 1 0 0) sR mR aR bR tR cR H locs 0 0 QR (F0 mR 4 ls []) := by
    intro fu
    induction fu with
    | zero =>
      intro a i hi ha hfu
      exact absurd hfu (Nat.not_lt_zero _)
    | succ fu ih_4 =>
      intro a i hi ha hfu H locs hI ls hl
      refine lv_iload_n hxR hbR dX2_strangersOf_4 rfl (lv_at hl 3 rfl) ?_
      refine lv_aload_n hxR hbR dX2_strangersOf_5 rfl (lv_at hl 0 rfl) ?_
      refine r_get hxR hbR hts hown hK hI okX2 (ci := 2) rfl 0 (he_l gW_o) 4 (by decide) q194 rfl (v := .ref (adn 10)) rfl dX2_strangersOf_6 ?_
      refine r_get hxR hbR hts hown hK hI okX1 (ci := 1) rfl (5 + 0) (he_r (Nat.le_of_ble_eq_true rfl) (Nat.le_of_ble_eq_true rfl) tW_o) 3 (by decide) q140 rfl (v := .int (nI n)) (al hn) dX2_strangersOf_9 ?_
      refine lv_icmp_ge (tgt := 45) hxR hbR dX2_strangersOf_12 (by decide) (fun c_12 => ?_) (fun c_12 => ?_)
      · skip
        have c_12 : n ≤ i := (n_le (a := n) (b := i) (by omega) (by omega)).mp c_12
        refine lv_iload_n hxR hbR dX2_strangersOf_45 rfl (lv_at hl 2 rfl) ?_
        exact hret () a _ _ _ _ _ _ dX2_strangersOf_46 hI (by show a = sumS (msS K n) Z n; rw [ha, show i = n by omega]) (Nat.le_of_ble_eq_true rfl) (Nat.le_of_ble_eq_true rfl) rfl
      · skip
        have c_12 : i < n := Nat.lt_of_not_le (fun zz => c_12 ((n_le (a := n) (b := i) (by omega) (by omega)).mpr zz))
        refine lv_iload_n hxR hbR dX2_strangersOf_15 rfl (lv_at hl 2 rfl) ?_
        refine lv_iload_n hxR hbR dX2_strangersOf_16 rfl (lv_at hl 1 rfl) ?_
        refine lv_iload_n hxR hbR dX2_strangersOf_17 rfl (lv_at hl 3 rfl) ?_
        refine kSNI (n := 2) (As := [.int (nI Z), .int (nI i)]) (rest := [.int a]) (fun w => w ++ (gW E ad iv gr pa mo sg (some (adn 10)) ++ (tW E adn ivn hrn csn (sK K)))) hxR hbR hmlR hts hown hK hA hl.1 (isCtx.suf _) hI (c0_has l E  Z i (by first | omega | with_reducible assumption) (by first | omega | with_reducible assumption)) (host := RX0) q661 q81 (by decide) q660 (by decide +kernel) rfl (Nat.le_of_ble_eq_true rfl) (Nat.le_of_ble_eq_true rfl) ⟨Nat.le_of_ble_eq_true rfl, Nat.le_of_ble_eq_true rfl⟩ (Nat.le_of_ble_eq_true rfl) dX2_strangersOf_18 (fun r_18 u H locs hp hI hz => ?_)
        have hI : wI E AR sR H locs (gW E ad iv gr pa mo sg (some (adn 10)) ++ (tW E adn ivn hrn csn (sK K))) := hI
        have hp : r_18 = b2i (Z.testBit i) := hp
        have hr_18 := hp
        rcases b2i_cases hr_18 with ⟨c_18, rfl⟩ | ⟨c_18, rfl⟩
        · skip
          have c_18 : Z.testBit i = true := c_18
          refine lv_if_eq (tgt := 36) hxR hbR dX2_strangersOf_21 (by decide) (fun c => absurd c (by decide)) (fun _ => ?_)
          refine lv_aload_n hxR hbR dX2_strangersOf_24 rfl (lv_at hl 0 rfl) ?_
          refine r_get hxR hbR hts hown hK hI okX2 (ci := 2) rfl 0 (he_l gW_o) 3 (by decide) q193 rfl (v := .ref (ad 3)) rfl dX2_strangersOf_25 ?_
          refine lv_iload_n hxR hbR dX2_strangersOf_28 rfl (lv_at hl 3 rfl) ?_
          refine r_iald hxR hbR hK hI 4 (n := 7) (J := i) (f := sg) (v := nI (strS K i n)) (he_l (gW_g3 rfl)) (by omega) (by decide) (hsg _ (by omega)) dX2_strangersOf_29 ?_
          refine kSI (n := 1) (As := [.int (nI (strS K i n))]) (rest := [.int a]) (fun w => w ++ (gW E ad iv gr pa mo sg (some (adn 10)) ++ (tW E adn ivn hrn csn (sK K)))) hxR hbR hmlR hts hown hK hA hl.1 (isCtx.suf _) hI (c10_bitCount l E  (strS K i n) (Nat.lt_of_lt_of_le (strS_lt K i n) (show 2 ^ n ≤ 2 ^ 8 from Nat.pow_le_pow_right (by decide) (by omega)))) (lw_S q650 q651 q105 q652) (by decide +kernel) rfl (Nat.le_of_ble_eq_true rfl) (Nat.le_of_ble_eq_true rfl) ⟨Nat.le_of_ble_eq_true rfl, Nat.le_of_ble_eq_true rfl⟩ (Nat.le_of_ble_eq_true rfl) dX2_strangersOf_30 (fun r_30 u H locs hp hI hz => ?_)
          have hI : wI E AR sR H locs (gW E ad iv gr pa mo sg (some (adn 10)) ++ (tW E adn ivn hrn csn (sK K))) := hI
          have hp : r_30 = nI (bitsN (strS K i n) 8) := hp
          have hr_30 := hp
          subst hr_30
          refine lv_goto (tgt := 37) hxR hbR dX2_strangersOf_33 (by decide) ?_
          refine lv_iadd hxR hbR dX2_strangersOf_37 ?_
          refine lv_istore_n (lv' := [(2, .int (a + (nI (bitsN (strS K i n) 8)))), (0, .ref (ad 8)), (1, .int (nI Z)), (3, .int (nI i))]) hxR hbR dX2_strangersOf_38 rfl hl (by decide) rfl (fun ls hl => ?_)
          refine lv_iinc (v := nI (i + 1)) (lv' := [(3, .int (nI (i + 1))), (2, .int (a + (nI (bitsN (strS K i n) 8)))), (0, .ref (ad 8)), (1, .int (nI Z))]) hxR hbR dX2_strangersOf_39 hl (k := 3) rfl (show nI i + 1 = nI (i + 1) from nI_add _ 1) (by decide) rfl (fun ls hl => ?_)
          refine lv_goto (tgt := 4) hxR hbR dX2_strangersOf_42 (by decide) ?_
          exact ih_4 (a + (nI (bitsN (strS K i n) 8))) (i + 1) (by first | omega | with_reducible assumption) (by rw [ha]; first | exact (sumS_y (f := msS K n) c_18).symm | exact (sumS_n c_18).symm) (by omega) _ _ hI _ (lv_sub hl [2, 3, 1, 0] rfl)
        · skip
          have c_18 : Z.testBit i = false := c_18
          refine lv_if_eq (tgt := 36) hxR hbR dX2_strangersOf_21 (by decide) (fun _ => ?_) (fun c => absurd c (by decide))
          refine lv_iconst (v := 0) hxR hbR dX2_strangersOf_36 (by decide) ?_
          refine lv_iadd hxR hbR dX2_strangersOf_37 ?_
          refine lv_istore_n (lv' := [(2, .int (a + 0)), (0, .ref (ad 8)), (1, .int (nI Z)), (3, .int (nI i))]) hxR hbR dX2_strangersOf_38 rfl hl (by decide) rfl (fun ls hl => ?_)
          refine lv_iinc (v := nI (i + 1)) (lv' := [(3, .int (nI (i + 1))), (2, .int (a + 0)), (0, .ref (ad 8)), (1, .int (nI Z))]) hxR hbR dX2_strangersOf_39 hl (k := 3) rfl (show nI i + 1 = nI (i + 1) from nI_add _ 1) (by decide) rfl (fun ls hl => ?_)
          refine lv_goto (tgt := 4) hxR hbR dX2_strangersOf_42 (by decide) ?_
          exact ih_4 (a + 0) (i + 1) (by first | omega | with_reducible assumption) (by rw [ha]; first | exact (sumS_y (f := msS K n) c_18).symm | exact (sumS_n c_18).symm) (by omega) _ _ hI _ (lv_sub hl [2, 3, 1, 0] rfl)
  exact lp_4 _ 0 0 (by first | omega | with_reducible assumption) rfl (Nat.lt_succ_self _) _ _ hI _ (lv_sub hl [2, 3, 1, 0] rfl)

theorem c2_goes (l : Launch) (E : En) : ∀ (r : Nat) (ad : Nat → Nat) (iv : Nat → Int32) (gr : Nat → Int32) (pa : Nat → Int32) (mo : Nat → Int32) (sg : Nat → Int32) (tn : Option Nat) (PL : List Nat) (O c lo so : Nat) (hc : iv 5 = nI PL.length) (hP : ∀ j, j < PL.length → pa j = nI (PL.getD j 0)) (hok : pOk PL) (hlo : iv 6 = nI lo) (hso : iv 7 = nI so) (hlo5 : lo ≤ 35) (hso5 : so ≤ 35) (hO : O < 2 ^ 21) (hr : r = bitsN O 21) (hcb : c + bitsN O 21 ≤ 21), CtV l E yX2_goes cX2_goes 6 (r + 2) 0 0 [.ref (ad 8), .int (nI O), .int (nI c)] (gW E ad iv gr pa mo sg tn) (fun (u : Unit) => True) (fun (u : Unit) => gW E ad (va_up (va_up iv 6 (nI ((gsV PL O c (lo, so)).1))) 7 (nI ((gsV PL O c (lo, so)).2))) gr pa mo sg tn) := by
  intro r
  induction r using Nat.strongRecOn with
  | _ r ih =>
    intro ad iv gr pa mo sg tn PL O c lo so hc hP hok hlo hso hlo5 hso5 hO hr hcb
    have hl35 := hok.1
    refine CtV.of (by decide +kernel) (Nat.le_of_ble_eq_true rfl) ?_
    intro pR eR sR mR aR bR tR cR AR ls QR hxR hbR hmlR hts hown hlk hnm hA hK hI hl hret
    have hl : lv_has ls 6 [(0, .ref (ad 8)), (1, .int (nI O)), (2, .int (nI c))] := hl
    have cut_29 : ∀ (f : Nat), (f ≤ PL.length) → (PL.dropWhile (fun x => decide (¬ nd x O = 0)) = (PL.drop f).dropWhile (fun x => decide (¬ nd x O = 0))) → (f = PL.length ∨ nd (PL.getD f 0) O = 0) → ∀ (H : Heap) (locs : List Loc), wI E AR sR H locs (gW E ad iv gr pa mo sg tn) → ∀ ls : Array Slot, lv_has ls 6 [(0, .ref (ad 8)), (1, .int (nI O)), (2, .int (nI c)), (3, .int (nI f))] → W pR l eR (rmF (r + 2) 0 0) sR mR aR bR tR cR H locs 0 0 QR (F0 mR 29 ls []) := by
      intro f hf hdw hfe H locs hI ls hl
      refine lv_iload_n hxR hbR dX2_goes_29 rfl (lv_at hl 3 rfl) ?_
      refine lv_aload_n hxR hbR dX2_goes_30 rfl (lv_at hl 0 rfl) ?_
      refine r_get hxR hbR hts hown hK hI okX2 (ci := 2) rfl 0 gW_o 5 (by decide) q195 rfl (v := .int (nI PL.length)) (al hc) dX2_goes_31 ?_
      refine lv_icmp_ne (tgt := 62) hxR hbR dX2_goes_34 (by decide) (fun c_34 => ?_) (fun c_34 => ?_)
      · skip
        have c_34 : ¬ f = PL.length := fun zz => c_34 ((n_eq (a := f) (b := PL.length) (by omega) (by omega)).mpr zz)
        have hf0 := hfe.resolve_left c_34
        refine lv_iload_n hxR hbR dX2_goes_62 rfl (lv_at hl 3 rfl) ?_
        refine lv_istore (lv' := [(4, .int (nI f)), (0, .ref (ad 8)), (1, .int (nI O)), (2, .int (nI c)), (3, .int (nI f))]) hxR hbR dX2_goes_63 hl (by decide) rfl (fun ls hl => ?_)
        have hI := wI_w (ws' := gW E ad (va_up iv 6 (nI lo)) gr pa mo sg tn) (by rw [va_up_id (f := iv) (k := 6) (v := nI lo) hlo]) hI
        have hI := wI_w (ws' := gW E ad (va_up (va_up iv 6 (nI lo)) 7 (nI so)) gr pa mo sg tn) (by rw [va_up_id (f := (va_up iv 6 (nI lo))) (k := 7) (v := nI so) (up_n (by decide) hso)]) hI
        have lp_65 : ∀ (fu : Nat) (g : Nat) (lo2 : Nat) (so2 : Nat), (f ≤ g) → (g ≤ PL.length) → ((PL.drop g).foldl (gsG PL O c (PL.getD f 0)) (lo2, so2) = gsV PL O c (lo, so)) → (lo2 ≤ 35) → (so2 ≤ 35) → PL.length - g < fu → ∀ (H : Heap) (locs : List Loc), wI E AR sR H locs (gW E ad (va_up (va_up iv 6 (nI lo2)) 7 (nI so2)) gr pa mo sg tn) → ∀ ls : Array Slot, lv_has ls 6 [(0, .ref (ad 8)), (1, .int (nI O)), (2, .int (nI c)), (3, .int (nI f)), (4, .int (nI g))] → W pR l eR (rmF (r + 2) 0 0) sR mR aR bR tR cR H locs 0 0 QR (F0 mR 65 ls []) := by
          intro fu
          induction fu with
          | zero =>
            intro g lo2 so2 hg0 hg hfo hlo25 hso25 hfu
            exact absurd hfu (Nat.not_lt_zero _)
          | succ fu ih_65 =>
            intro g lo2 so2 hg0 hg hfo hlo25 hso25 hfu H locs hI ls hl
            refine lv_iload hxR hbR dX2_goes_65 (lv_at hl 4 rfl) ?_
            refine lv_aload_n hxR hbR dX2_goes_67 rfl (lv_at hl 0 rfl) ?_
            refine r_get hxR hbR hts hown hK hI okX2 (ci := 2) rfl 0 gW_o 5 (by decide) q195 rfl (v := .int (nI PL.length)) (al (up_n (by decide) (up_n (by decide) hc))) dX2_goes_68 ?_
            refine lv_icmp_ge (tgt := 141) hxR hbR dX2_goes_71 (by decide) (fun c_71 => ?_) (fun c_71 => ?_)
            · skip
              have c_71 : PL.length ≤ g := (n_le (a := PL.length) (b := g) (by omega) (by omega)).mp c_71
              have hI : wI E AR sR H locs (gW E ad (va_up (va_up iv 6 (nI ((gsV PL O c (lo, so)).1))) 7 (nI ((gsV PL O c (lo, so)).2))) gr pa mo sg tn) := by rw [← fold_e (by omega) hfo]; exact hI
              exact hret () _ _ _ _ _ _ dX2_goes_141 hI (by show True; trivial) (Nat.le_of_ble_eq_true rfl) (Nat.le_of_ble_eq_true rfl)
            · skip
              have c_71 : g < PL.length := Nat.lt_of_not_le (fun zz => c_71 ((n_le (a := PL.length) (b := g) (by omega) (by omega)).mpr zz))
              refine lv_aload_n hxR hbR dX2_goes_74 rfl (lv_at hl 0 rfl) ?_
              refine r_get hxR hbR hts hown hK hI okX2 (ci := 2) rfl 0 gW_o 1 (by decide) q191 rfl (v := .ref (ad 1)) rfl dX2_goes_75 ?_
              refine lv_iload hxR hbR dX2_goes_78 (lv_at hl 4 rfl) ?_
              refine r_iald hxR hbR hK hI 2 (n := 35) (J := g) (f := pa) (v := nI (PL.getD g 0)) (gW_g1 rfl) (by omega) (by decide) (hP _ (by omega)) dX2_goes_80 ?_
              refine lv_iload_n hxR hbR dX2_goes_81 rfl (lv_at hl 1 rfl) ?_
              refine lv_iconst (v := (-1)) hxR hbR dX2_goes_82 (by decide) ?_
              refine lv_ixor hxR hbR dX2_goes_83 ?_
              refine lv_iand hxR hbR dX2_goes_84 ?_
              refine lv_as (y := nI (nd (PL.getD g 0) O)) (nb_nd (PL.getD g 0) O) ?_
              refine lv_if_ne (tgt := 92) hxR hbR dX2_goes_85 (by decide) (fun c_85 => ?_) (fun c_85 => ?_)
              · skip
                have c_85 : ¬ (nd (PL.getD g 0) O) = 0 := fun zz => c_85 ((n_eq (a := (nd (PL.getD g 0) O)) (b := 0) (by have := nd_le (PL.getD g 0) O; have := hok.lt (j := g) (by omega); omega) (by decide)).mpr zz)
                refine lv_iconst (v := 0) hxR hbR dX2_goes_92 (by decide) ?_
                refine lv_istore (lv' := [(5, .int 0), (0, .ref (ad 8)), (1, .int (nI O)), (2, .int (nI c)), (3, .int (nI f)), (4, .int (nI g))]) hxR hbR dX2_goes_93 hl (by decide) rfl (fun ls hl => ?_)
                refine lv_iload hxR hbR dX2_goes_95 (lv_at hl 0 rfl) ?_
                refine lv_if_eq (tgt := 135) hxR hbR dX2_goes_97 (by decide) (fun _ => ?_) (fun c => absurd c (by decide))
                refine lv_iinc (v := nI (g + 1)) (lv' := [(4, .int (nI (g + 1))), (5, .int 0), (0, .ref (ad 8)), (1, .int (nI O)), (2, .int (nI c)), (3, .int (nI f))]) hxR hbR dX2_goes_135 hl (k := 5) rfl (show nI g + 1 = nI (g + 1) from nI_add _ 1) (by decide) rfl (fun ls hl => ?_)
                refine lv_goto (tgt := 65) hxR hbR dX2_goes_138 (by decide) ?_
                exact ih_65 (g + 1) lo2 so2 (by first | omega | with_reducible assumption) (by first | omega | with_reducible assumption) (by first | exact (gsG_n1 (a := (lo2, so2)) c_85) ▸ fold_d c_71 hfo | exact (gsG_n2 (a := (lo2, so2)) c_114) ▸ fold_d c_71 hfo | exact (gsG_y (a := (lo2, so2)) c_85 c_114) ▸ fold_d c_71 hfo) (by first | exact hlo25 | exact hle.1) (by first | exact hso25 | exact hle.2) (by omega) _ _ hI _ (lv_sub hl [2, 3, 4, 5, 0] rfl)
              · skip
                have c_85 : (nd (PL.getD g 0) O) = 0 := (n_eq (a := (nd (PL.getD g 0) O)) (b := 0) (by have := nd_le (PL.getD g 0) O; have := hok.lt (j := g) (by omega); omega) (by decide)).mp c_85
                refine lv_iconst (v := 1) hxR hbR dX2_goes_88 (by decide) ?_
                refine lv_goto (tgt := 93) hxR hbR dX2_goes_89 (by decide) ?_
                refine lv_istore (lv' := [(5, .int 1), (0, .ref (ad 8)), (1, .int (nI O)), (2, .int (nI c)), (3, .int (nI f)), (4, .int (nI g))]) hxR hbR dX2_goes_93 hl (by decide) rfl (fun ls hl => ?_)
                refine lv_iload hxR hbR dX2_goes_95 (lv_at hl 0 rfl) ?_
                refine lv_if_eq (tgt := 135) hxR hbR dX2_goes_97 (by decide) (fun c => absurd c (by decide)) (fun _ => ?_)
                refine lv_aload_n hxR hbR dX2_goes_100 rfl (lv_at hl 1 rfl) ?_
                refine r_get hxR hbR hts hown hK hI okX2 (ci := 2) rfl 0 gW_o 1 (by decide) q191 rfl (v := .ref (ad 1)) rfl dX2_goes_101 ?_
                refine lv_iload hxR hbR dX2_goes_104 (lv_at hl 5 rfl) ?_
                refine r_iald hxR hbR hK hI 2 (n := 35) (J := g) (f := pa) (v := nI (PL.getD g 0)) (gW_g1 rfl) (by omega) (by decide) (hP _ (by omega)) dX2_goes_106 ?_
                refine lv_aload_n hxR hbR dX2_goes_107 rfl (lv_at hl 1 rfl) ?_
                refine r_get hxR hbR hts hown hK hI okX2 (ci := 2) rfl 0 gW_o 1 (by decide) q191 rfl (v := .ref (ad 1)) rfl dX2_goes_108 ?_
                refine lv_iload_n hxR hbR dX2_goes_111 rfl (lv_at hl 4 rfl) ?_
                refine r_iald hxR hbR hK hI 2 (n := 35) (J := f) (f := pa) (v := nI (PL.getD f 0)) (gW_g1 rfl) (by omega) (by decide) (hP _ (by omega)) dX2_goes_112 ?_
                refine lv_iand hxR hbR dX2_goes_113 ?_
                refine lv_as (y := nI ((PL.getD g 0) &&& (PL.getD f 0))) (nb_and (PL.getD g 0) (PL.getD f 0)) ?_
                refine lv_if_eq (tgt := 135) hxR hbR dX2_goes_114 (by decide) (fun c_114 => ?_) (fun c_114 => ?_)
                · skip
                  have c_114 : ((PL.getD g 0) &&& (PL.getD f 0)) = 0 := (n_eq (a := ((PL.getD g 0) &&& (PL.getD f 0))) (b := 0) (by have := @Nat.and_le_left (PL.getD g 0) (PL.getD f 0); have := hok.lt (j := g) (by omega); omega) (by decide)).mp c_114
                  refine lv_iinc (v := nI (g + 1)) (lv' := [(4, .int (nI (g + 1))), (5, .int 1), (0, .ref (ad 8)), (1, .int (nI O)), (2, .int (nI c)), (3, .int (nI f))]) hxR hbR dX2_goes_135 hl (k := 5) rfl (show nI g + 1 = nI (g + 1) from nI_add _ 1) (by decide) rfl (fun ls hl => ?_)
                  refine lv_goto (tgt := 65) hxR hbR dX2_goes_138 (by decide) ?_
                  exact ih_65 (g + 1) lo2 so2 (by first | omega | with_reducible assumption) (by first | omega | with_reducible assumption) (by first | exact (gsG_n1 (a := (lo2, so2)) c_85) ▸ fold_d c_71 hfo | exact (gsG_n2 (a := (lo2, so2)) c_114) ▸ fold_d c_71 hfo | exact (gsG_y (a := (lo2, so2)) c_85 c_114) ▸ fold_d c_71 hfo) (by first | exact hlo25 | exact hle.1) (by first | exact hso25 | exact hle.2) (by omega) _ _ hI _ (lv_sub hl [2, 3, 4, 5, 0] rfl)
                · skip
                  have c_114 : ¬ ((PL.getD g 0) &&& (PL.getD f 0)) = 0 := fun zz => c_114 ((n_eq (a := ((PL.getD g 0) &&& (PL.getD f 0))) (b := 0) (by have := @Nat.and_le_left (PL.getD g 0) (PL.getD f 0); have := hok.lt (j := g) (by omega); omega) (by decide)).mpr zz)
                  refine lv_aload_n hxR hbR dX2_goes_117 rfl (lv_at hl 1 rfl) ?_
                  refine lv_iload_n hxR hbR dX2_goes_118 rfl (lv_at hl 2 rfl) ?_
                  refine lv_aload_n hxR hbR dX2_goes_119 rfl (lv_at hl 1 rfl) ?_
                  refine r_get hxR hbR hts hown hK hI okX2 (ci := 2) rfl 0 gW_o 1 (by decide) q191 rfl (v := .ref (ad 1)) rfl dX2_goes_120 ?_
                  refine lv_iload hxR hbR dX2_goes_123 (lv_at hl 5 rfl) ?_
                  refine r_iald hxR hbR hK hI 2 (n := 35) (J := g) (f := pa) (v := nI (PL.getD g 0)) (gW_g1 rfl) (by omega) (by decide) (hP _ (by omega)) dX2_goes_125 ?_
                  refine lv_iconst (v := (-1)) hxR hbR dX2_goes_126 (by decide) ?_
                  refine lv_ixor hxR hbR dX2_goes_127 ?_
                  refine lv_iand hxR hbR dX2_goes_128 ?_
                  refine lv_as (y := nI (nd O (PL.getD g 0))) (nb_nd O (PL.getD g 0)) ?_
                  refine lv_iload_n hxR hbR dX2_goes_129 rfl (lv_at hl 3 rfl) ?_
                  refine lv_iconst (v := 1) hxR hbR dX2_goes_130 (by decide) ?_
                  refine lv_iadd hxR hbR dX2_goes_131 ?_
                  refine lv_as (y := nI (c + 1)) (nI_add c 1) ?_
                  have hgb := gs_bits hok (getD_mem (L := PL) (i := g) (by omega)) c_85
                  refine kVV (n := 2) (As := [.int (nI (nd O (PL.getD g 0))), .int (nI (c + 1))]) (rest := []) (fun w => w) hxR hbR hmlR hts hown hK hA hl.1 isCtx.id hI (ih (bitsN (nd O (PL.getD g 0)) 21) (by rw [hr]; exact hgb) ad (va_up (va_up iv 6 (nI lo2)) 7 (nI so2)) gr pa mo sg tn PL (nd O (PL.getD g 0)) (c + 1) lo2 so2 (up_n (by decide) (up_n (by decide) hc)) (by first | omega | with_reducible assumption) (by first | omega | with_reducible assumption) (up_n (by decide) va_up_s) va_up_s (by first | omega | with_reducible assumption) (by first | omega | with_reducible assumption) (Nat.lt_of_le_of_lt (nd_le _ _) hO) rfl (by omega)) (lw_V q1302 q1304 qs25 q83 q1305) ⟨rfl, by decide +kernel⟩ 0 2 rfl rfl gW_o rfl (by omega) (Nat.le_of_ble_eq_true rfl) ⟨Nat.le_of_ble_eq_true rfl, Nat.le_of_ble_eq_true rfl⟩ (Nat.le_of_ble_eq_true rfl) dX2_goes_132 (fun u H locs hp hI hz => ?_)
                  have hI : wI E AR sR H locs (gW E ad (va_up (va_up (va_up (va_up iv 6 (nI lo2)) 7 (nI so2)) 6 (nI ((gsV PL (nd O (PL.getD g 0)) (c + 1) (lo2, so2)).1))) 7 (nI ((gsV PL (nd O (PL.getD g 0)) (c + 1) (lo2, so2)).2))) gr pa mo sg tn) := hI
                  have hI := wI_w (ws' := gW E ad (va_up (va_up iv 6 (nI ((gsV PL (nd O (PL.getD g 0)) (c + 1) (lo2, so2)).1))) 7 (nI ((gsV PL (nd O (PL.getD g 0)) (c + 1) (lo2, so2)).2))) gr pa mo sg tn) (by rw [(show (va_up (va_up iv 6 (nI ((gsV PL (nd O (PL.getD g 0)) (c + 1) (lo2, so2)).1))) 7 (nI ((gsV PL (nd O (PL.getD g 0)) (c + 1) (lo2, so2)).2))) = (va_up (va_up (va_up (va_up iv 6 (nI lo2)) 7 (nI so2)) 6 (nI ((gsV PL (nd O (PL.getD g 0)) (c + 1) (lo2, so2)).1))) 7 (nI ((gsV PL (nd O (PL.getD g 0)) (c + 1) (lo2, so2)).2))) from ((Eq.trans (congrArg (fun z => va_up z 7 (nI ((gsV PL (nd O (PL.getD g 0)) (c + 1) (lo2, so2)).2))) (up_s (by decide) up_0)) up_0)).symm)]) hI
                  have hI : wI E AR sR H locs (gW E ad (va_up (va_up iv 6 (nI ((gsV PL (nd O (PL.getD g 0)) (c + 1) (lo2, so2)).1))) 7 (nI ((gsV PL (nd O (PL.getD g 0)) (c + 1) (lo2, so2)).2))) gr pa mo sg tn) := hI
                  have hle := gsV_le hok (O := nd O (PL.getD g 0)) (c := c + 1) (acc := (lo2, so2)) (by omega) hlo25 hso25
                  refine lv_iinc (v := nI (g + 1)) (lv' := [(4, .int (nI (g + 1))), (5, .int 1), (0, .ref (ad 8)), (1, .int (nI O)), (2, .int (nI c)), (3, .int (nI f))]) hxR hbR dX2_goes_135 hl (k := 5) rfl (show nI g + 1 = nI (g + 1) from nI_add _ 1) (by decide) rfl (fun ls hl => ?_)
                  refine lv_goto (tgt := 65) hxR hbR dX2_goes_138 (by decide) ?_
                  exact ih_65 (g + 1) ((gsV PL (nd O (PL.getD g 0)) (c + 1) (lo2, so2)).1) ((gsV PL (nd O (PL.getD g 0)) (c + 1) (lo2, so2)).2) (by first | omega | with_reducible assumption) (by first | omega | with_reducible assumption) (by first | exact (gsG_n1 (a := (lo2, so2)) c_85) ▸ fold_d c_71 hfo | exact (gsG_n2 (a := (lo2, so2)) c_114) ▸ fold_d c_71 hfo | exact (gsG_y (a := (lo2, so2)) c_85 c_114) ▸ fold_d c_71 hfo) (by first | exact hlo25 | exact hle.1) (by first | exact hso25 | exact hle.2) (by omega) _ _ hI _ (lv_sub hl [2, 3, 4, 5, 0] rfl)
        exact lp_65 _ f lo so (by first | omega | with_reducible assumption) (by first | omega | with_reducible assumption) (by rw [gsV_cons hok (dropW_f hdw (by omega) (decide_eq_false (fun z => z hf0))), ← dropD (by omega)]) (by first | omega | with_reducible assumption) (by first | omega | with_reducible assumption) (Nat.lt_succ_self _) _ _ hI _ (lv_sub hl [1, 2, 3, 4, 0] rfl)
      · skip
        have c_34 : f = PL.length := (n_eq (a := f) (b := PL.length) (by omega) (by omega)).mp c_34
        have hnil := dropW_e hdw (by omega)
        refine lv_aload_n hxR hbR dX2_goes_37 rfl (lv_at hl 0 rfl) ?_
        refine lv_aload_n hxR hbR dX2_goes_38 rfl (lv_at hl 0 rfl) ?_
        refine r_get hxR hbR hts hown hK hI okX2 (ci := 2) rfl 0 gW_o 6 (by decide) q198 rfl (v := .int (nI lo)) (al hlo) dX2_goes_39 ?_
        refine lv_iload_n hxR hbR dX2_goes_42 rfl (lv_at hl 2 rfl) ?_
        refine va_mmax hxR hbR (by rw [hmlR]; exact hl.1.symm) hown (hts _ q666) (hts _ q667) (hts _ q106) (hts _ q668) (Nat.le_of_ble_eq_true rfl) (Nat.le_of_ble_eq_true rfl) (by omega) (by omega) dX2_goes_43 ?_
        refine lv_as (y := nI (max lo c)) (mx_n (by omega) (by omega)) ?_
        refine r_put (v := .int (nI (max lo c))) (ws1 := gW E ad (va_up iv 6 (nI (max lo c))) gr pa mo sg tn) hxR hbR hts hown hK hI okX2 (ci := 2) rfl 0 gW_o 6 (by decide) q198 rfl rfl rfl rfl (Nat.le_of_ble_eq_true rfl) gW_i6 dX2_goes_46 (fun H locs hI => ?_)
        refine lv_aload_n hxR hbR dX2_goes_49 rfl (lv_at hl 0 rfl) ?_
        refine lv_aload_n hxR hbR dX2_goes_50 rfl (lv_at hl 0 rfl) ?_
        refine r_get hxR hbR hts hown hK hI okX2 (ci := 2) rfl 0 gW_o 7 (by decide) q200 rfl (v := .int (nI so)) (al (up_n (by decide) hso)) dX2_goes_51 ?_
        refine lv_iload_n hxR hbR dX2_goes_54 rfl (lv_at hl 2 rfl) ?_
        refine va_mmin hxR hbR (by rw [hmlR]; exact hl.1.symm) hown (hts _ q1306) (hts _ q910) (hts _ q106) (hts _ q911) (Nat.le_of_ble_eq_true rfl) (Nat.le_of_ble_eq_true rfl) (by omega) (by omega) dX2_goes_55 ?_
        refine lv_as (y := nI (min so c)) (mn_n (by omega) (by omega)) ?_
        refine r_put (v := .int (nI (min so c))) (ws1 := gW E ad (va_up (va_up iv 6 (nI (max lo c))) 7 (nI (min so c))) gr pa mo sg tn) hxR hbR hts hown hK hI okX2 (ci := 2) rfl 0 gW_o 7 (by decide) q200 rfl rfl rfl rfl (Nat.le_of_ble_eq_true rfl) gW_i7 dX2_goes_58 (fun H locs hI => ?_)
        have hI : wI E AR sR H locs (gW E ad (va_up (va_up iv 6 (nI ((gsV PL O c (lo, so)).1))) 7 (nI ((gsV PL O c (lo, so)).2))) gr pa mo sg tn) := by rw [gsV_nil hnil]; exact hI
        exact hret () _ _ _ _ _ _ dX2_goes_61 hI (by show True; trivial) (Nat.le_of_ble_eq_true rfl) (Nat.le_of_ble_eq_true rfl)
    refine lv_iconst (v := 0) hxR hbR dX2_goes_0 (by decide) ?_
    refine lv_istore_n (lv' := [(3, .int 0), (0, .ref (ad 8)), (1, .int (nI O)), (2, .int (nI c))]) hxR hbR dX2_goes_1 rfl hl (by decide) rfl (fun ls hl => ?_)
    have lp_2 : ∀ (fu : Nat) (i : Nat), (i ≤ PL.length) → (PL.dropWhile (fun x => decide (¬ nd x O = 0)) = (PL.drop i).dropWhile (fun x => decide (¬ nd x O = 0))) → PL.length - i < fu → ∀ (H : Heap) (locs : List Loc), wI E AR sR H locs (gW E ad iv gr pa mo sg tn) → ∀ ls : Array Slot, lv_has ls 6 [(0, .ref (ad 8)), (1, .int (nI O)), (2, .int (nI c)), (3, .int (nI i))] → W pR l eR (rmF (r + 2) 0 0) sR mR aR bR tR cR H locs 0 0 QR (F0 mR 2 ls []) := by
      intro fu
      induction fu with
      | zero =>
        intro i hi hdw hfu
        exact absurd hfu (Nat.not_lt_zero _)
      | succ fu ih_2 =>
        intro i hi hdw hfu H locs hI ls hl
        refine lv_iload_n hxR hbR dX2_goes_2 rfl (lv_at hl 3 rfl) ?_
        refine lv_aload_n hxR hbR dX2_goes_3 rfl (lv_at hl 0 rfl) ?_
        refine r_get hxR hbR hts hown hK hI okX2 (ci := 2) rfl 0 gW_o 5 (by decide) q195 rfl (v := .int (nI PL.length)) (al hc) dX2_goes_4 ?_
        refine lv_icmp_ge (tgt := 29) hxR hbR dX2_goes_7 (by decide) (fun c_7 => ?_) (fun c_7 => ?_)
        · skip
          have c_7 : PL.length ≤ i := (n_le (a := PL.length) (b := i) (by omega) (by omega)).mp c_7
          exact cut_29 i (by first | omega | with_reducible assumption) (by first | omega | with_reducible assumption) (by first | exact Or.inl (by omega) | exact Or.inr c_20) _ _ hI _ (lv_sub hl [0, 1, 2, 3] rfl)
        · skip
          have c_7 : i < PL.length := Nat.lt_of_not_le (fun zz => c_7 ((n_le (a := PL.length) (b := i) (by omega) (by omega)).mpr zz))
          refine lv_aload_n hxR hbR dX2_goes_10 rfl (lv_at hl 0 rfl) ?_
          refine r_get hxR hbR hts hown hK hI okX2 (ci := 2) rfl 0 gW_o 1 (by decide) q191 rfl (v := .ref (ad 1)) rfl dX2_goes_11 ?_
          refine lv_iload_n hxR hbR dX2_goes_14 rfl (lv_at hl 3 rfl) ?_
          refine r_iald hxR hbR hK hI 2 (n := 35) (J := i) (f := pa) (v := nI (PL.getD i 0)) (gW_g1 rfl) (by omega) (by decide) (hP _ (by omega)) dX2_goes_15 ?_
          refine lv_iload_n hxR hbR dX2_goes_16 rfl (lv_at hl 1 rfl) ?_
          refine lv_iconst (v := (-1)) hxR hbR dX2_goes_17 (by decide) ?_
          refine lv_ixor hxR hbR dX2_goes_18 ?_
          refine lv_iand hxR hbR dX2_goes_19 ?_
          refine lv_as (y := nI (nd (PL.getD i 0) O)) (nb_nd (PL.getD i 0) O) ?_
          refine lv_if_eq (tgt := 29) hxR hbR dX2_goes_20 (by decide) (fun c_20 => ?_) (fun c_20 => ?_)
          · skip
            have c_20 : (nd (PL.getD i 0) O) = 0 := (n_eq (a := (nd (PL.getD i 0) O)) (b := 0) (by have := nd_le (PL.getD i 0) O; have := hok.lt (j := i) (by omega); omega) (by decide)).mp c_20
            exact cut_29 i (by first | omega | with_reducible assumption) (by first | omega | with_reducible assumption) (by first | exact Or.inl (by omega) | exact Or.inr c_20) _ _ hI _ (lv_sub hl [0, 1, 2, 3] rfl)
          · skip
            have c_20 : ¬ (nd (PL.getD i 0) O) = 0 := fun zz => c_20 ((n_eq (a := (nd (PL.getD i 0) O)) (b := 0) (by have := nd_le (PL.getD i 0) O; have := hok.lt (j := i) (by omega); omega) (by decide)).mpr zz)
            refine lv_iinc (v := nI (i + 1)) (lv' := [(3, .int (nI (i + 1))), (0, .ref (ad 8)), (1, .int (nI O)), (2, .int (nI c))]) hxR hbR dX2_goes_23 hl (k := 3) rfl (show nI i + 1 = nI (i + 1) from nI_add _ 1) (by decide) rfl (fun ls hl => ?_)
            refine lv_goto (tgt := 2) hxR hbR dX2_goes_26 (by decide) ?_
            exact ih_2 (i + 1) (by first | omega | with_reducible assumption) (dropW_s hdw c_7 (decide_eq_true c_20)) (by omega) _ _ hI _ (lv_sub hl [1, 2, 3, 0] rfl)
    exact lp_2 _ 0 (by first | omega | with_reducible assumption) rfl (Nat.lt_succ_self _) _ _ hI _ (lv_sub hl [1, 2, 3, 0] rfl)

theorem c2_ever (l : Launch) (E : En) (ad : Nat → Nat) (iv : Nat → Int32) (gr : Nat → Int32) (pa : Nat → Int32) (mo : Nat → Int32) (sg : Nat → Int32) (tn : Option Nat) (PL : List Nat) (hc : iv 5 = nI PL.length) (hP : ∀ j, j < PL.length → pa j = nI (PL.getD j 0)) (hok : pOk PL) : CtT l E yX2_ever cX2_ever 3 (Jvm.ClassFile.FieldType.object "ThreeStrangers$Groups") 30 0 0 [.ref (ad 8)] (gW E ad iv gr pa mo sg tn) (fun (u : Unit) => True) (fun (u : Unit) => gW E ad (va_up (va_up iv 6 (nI ((gsV PL (orL PL PL.length) 0 (0, 35)).1))) 7 (nI ((gsV PL (orL PL PL.length) 0 (0, 35)).2))) gr pa mo sg tn) (fun (u : Unit) => ad 8) := by
  have hl35 := hok.1
  refine CtT.of (by decide +kernel) (Nat.le_of_ble_eq_true rfl) (by first | exact Or.inl ⟨_, rfl⟩ | exact Or.inr ⟨_, rfl⟩) ?_
  intro pR eR sR mR aR bR tR cR AR ls QR hxR hbR hmlR hts hown hlk hnm hA hK hI hl hret
  have hl : lv_has ls 3 [(0, .ref (ad 8))] := hl
  refine lv_iconst (v := 0) hxR hbR dX2_ever_0 (by decide) ?_
  refine lv_istore_n (lv' := [(1, .int 0), (0, .ref (ad 8))]) hxR hbR dX2_ever_1 rfl hl (by decide) rfl (fun ls hl => ?_)
  refine lv_iconst (v := 0) hxR hbR dX2_ever_2 (by decide) ?_
  refine lv_istore_n (lv' := [(2, .int 0), (1, .int 0), (0, .ref (ad 8))]) hxR hbR dX2_ever_3 rfl hl (by decide) rfl (fun ls hl => ?_)
  have lp_4 : ∀ (fu : Nat) (o : Nat) (i : Nat), (i ≤ PL.length) → (o = orL PL i) → PL.length - i < fu → ∀ (H : Heap) (locs : List Loc), wI E AR sR H locs (gW E ad iv gr pa mo sg tn) → ∀ ls : Array Slot, lv_has ls 3 [(0, .ref (ad 8)), (1, .int (nI o)), (2, .int (nI i))] → W pR l eR (rmF 30 0 0) sR mR aR bR tR cR H locs 0 0 QR (F0 mR 4 ls []) := by
    intro fu
    induction fu with
    | zero =>
      intro o i hi ho hfu
      exact absurd hfu (Nat.not_lt_zero _)
    | succ fu ih_4 =>
      intro o i hi ho hfu H locs hI ls hl
      refine lv_iload_n hxR hbR dX2_ever_4 rfl (lv_at hl 2 rfl) ?_
      refine lv_aload_n hxR hbR dX2_ever_5 rfl (lv_at hl 0 rfl) ?_
      refine r_get hxR hbR hts hown hK hI okX2 (ci := 2) rfl 0 gW_o 5 (by decide) q195 rfl (v := .int (nI PL.length)) (al hc) dX2_ever_6 ?_
      refine lv_icmp_ge (tgt := 27) hxR hbR dX2_ever_9 (by decide) (fun c_9 => ?_) (fun c_9 => ?_)
      · skip
        have c_9 : PL.length ≤ i := (n_le (a := PL.length) (b := i) (by omega) (by omega)).mp c_9
        have hii : i = PL.length := by omega
        rw [hii] at ho
        have hol := orL_lt hok PL.length (Nat.le_refl _)
        have hbl := bitsN_le (orL PL PL.length) 21
        refine lv_aload_n hxR hbR dX2_ever_27 rfl (lv_at hl 0 rfl) ?_
        refine lv_iconst (v := 0) hxR hbR dX2_ever_28 (by decide) ?_
        refine r_put (v := .int 0) (ws1 := gW E ad (va_up iv 6 0) gr pa mo sg tn) hxR hbR hts hown hK hI okX2 (ci := 2) rfl 0 gW_o 6 (by decide) q198 rfl rfl rfl rfl (Nat.le_of_ble_eq_true rfl) gW_i6 dX2_ever_29 (fun H locs hI => ?_)
        refine lv_aload_n hxR hbR dX2_ever_32 rfl (lv_at hl 0 rfl) ?_
        refine lv_bipush (v := 35) hxR hbR dX2_ever_33 (by decide) ?_
        refine r_put (v := .int 35) (ws1 := gW E ad (va_up (va_up iv 6 0) 7 35) gr pa mo sg tn) hxR hbR hts hown hK hI okX2 (ci := 2) rfl 0 gW_o 7 (by decide) q200 rfl rfl rfl rfl (Nat.le_of_ble_eq_true rfl) gW_i7 dX2_ever_35 (fun H locs hI => ?_)
        refine lv_aload_n hxR hbR dX2_ever_38 rfl (lv_at hl 0 rfl) ?_
        refine lv_iload_n hxR hbR dX2_ever_39 rfl (lv_at hl 1 rfl) ?_
        refine lv_iconst (v := 0) hxR hbR dX2_ever_40 (by decide) ?_
        refine kVV (n := 2) (As := [.int (nI o), .int 0]) (rest := []) (fun w => w) hxR hbR hmlR hts hown hK hA hl.1 isCtx.id hI (c2_goes l E (bitsN (orL PL PL.length) 21) ad (va_up (va_up iv 6 0) 7 35) gr pa mo sg tn PL o 0 0 35 (up_n (by decide) (up_n (by decide) hc)) (by first | omega | with_reducible assumption) (by first | omega | with_reducible assumption) (up_n (by decide) va_up_s) va_up_s (by first | omega | with_reducible assumption) (by first | omega | with_reducible assumption) (by rw [ho]; exact hol) (by rw [ho]) (by rw [ho]; omega)) (lw_V q1302 q1304 qs25 q83 q1305) ⟨rfl, by decide +kernel⟩ 0 2 rfl rfl gW_o rfl (by omega) (Nat.le_of_ble_eq_true rfl) ⟨Nat.le_of_ble_eq_true rfl, Nat.le_of_ble_eq_true rfl⟩ (Nat.le_of_ble_eq_true rfl) dX2_ever_41 (fun u H locs hp hI hz => ?_)
        have hI : wI E AR sR H locs (gW E ad (va_up (va_up (va_up (va_up iv 6 0) 7 35) 6 (nI ((gsV PL o 0 (0, 35)).1))) 7 (nI ((gsV PL o 0 (0, 35)).2))) gr pa mo sg tn) := hI
        have hI := wI_w (ws' := gW E ad (va_up (va_up iv 6 (nI ((gsV PL o 0 (0, 35)).1))) 7 (nI ((gsV PL o 0 (0, 35)).2))) gr pa mo sg tn) (by rw [(show (va_up (va_up iv 6 (nI ((gsV PL o 0 (0, 35)).1))) 7 (nI ((gsV PL o 0 (0, 35)).2))) = (va_up (va_up (va_up (va_up iv 6 0) 7 35) 6 (nI ((gsV PL o 0 (0, 35)).1))) 7 (nI ((gsV PL o 0 (0, 35)).2))) from ((Eq.trans (congrArg (fun z => va_up z 7 (nI ((gsV PL o 0 (0, 35)).2))) (up_s (by decide) up_0)) up_0)).symm)]) hI
        have hI : wI E AR sR H locs (gW E ad (va_up (va_up iv 6 (nI ((gsV PL o 0 (0, 35)).1))) 7 (nI ((gsV PL o 0 (0, 35)).2))) gr pa mo sg tn) := hI
        refine lv_aload_n hxR hbR dX2_ever_44 rfl (lv_at hl 0 rfl) ?_
        rw [ho] at hI
        exact hret () _ _ _ _ _ _ dX2_ever_45 hI trivial (Nat.le_of_ble_eq_true rfl) (Nat.le_of_ble_eq_true rfl)
      · skip
        have c_9 : i < PL.length := Nat.lt_of_not_le (fun zz => c_9 ((n_le (a := PL.length) (b := i) (by omega) (by omega)).mpr zz))
        refine lv_iload_n hxR hbR dX2_ever_12 rfl (lv_at hl 1 rfl) ?_
        refine lv_aload_n hxR hbR dX2_ever_13 rfl (lv_at hl 0 rfl) ?_
        refine r_get hxR hbR hts hown hK hI okX2 (ci := 2) rfl 0 gW_o 1 (by decide) q191 rfl (v := .ref (ad 1)) rfl dX2_ever_14 ?_
        refine lv_iload_n hxR hbR dX2_ever_17 rfl (lv_at hl 2 rfl) ?_
        refine r_iald hxR hbR hK hI 2 (n := 35) (J := i) (f := pa) (v := nI (PL.getD i 0)) (gW_g1 rfl) (by omega) (by decide) (hP _ (by omega)) dX2_ever_18 ?_
        refine lv_ior hxR hbR dX2_ever_19 ?_
        refine lv_as (y := nI (o ||| (PL.getD i 0))) (nb_or o (PL.getD i 0)) ?_
        refine lv_istore_n (lv' := [(1, .int (nI (o ||| (PL.getD i 0)))), (0, .ref (ad 8)), (2, .int (nI i))]) hxR hbR dX2_ever_20 rfl hl (by decide) rfl (fun ls hl => ?_)
        refine lv_iinc (v := nI (i + 1)) (lv' := [(2, .int (nI (i + 1))), (1, .int (nI (o ||| (PL.getD i 0)))), (0, .ref (ad 8))]) hxR hbR dX2_ever_21 hl (k := 2) rfl (show nI i + 1 = nI (i + 1) from nI_add _ 1) (by decide) rfl (fun ls hl => ?_)
        refine lv_goto (tgt := 4) hxR hbR dX2_ever_24 (by decide) ?_
        exact ih_4 (o ||| (PL.getD i 0)) (i + 1) (by first | omega | with_reducible assumption) (by rw [ho]; rfl) (by omega) _ _ hI _ (lv_sub hl [2, 1, 0] rfl)
  exact lp_4 _ 0 0 (by first | omega | with_reducible assumption) rfl (Nat.lt_succ_self _) _ _ hI _ (lv_sub hl [2, 1, 0] rfl)
