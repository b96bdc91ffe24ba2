theorem c5_listFrom (l : Launch) (E : En) : ∀ (r : Nat) (ad : Nat → Nat) (kp tr : Option Nat) (iv : Nat → Int32) (ia K : Nat → Nat → Int32) (R : Nat → Nat → Int64) (mv : Nat → Int64) (n st S Fr k c : Nat) (hn : iv 10 = nI n) (hst : iv 14 = nI st) (hc : iv 30 = nI c) (hn8 : n ≤ 8) (hs4 : st ≤ 4) (hr : r = n - Fr) (hFr : Fr ≤ n) (hS : S < 2 ^ 8) (hk : k ≤ st) (hcap : c + chs r (st - k) ≤ 70), CtV l E yX5_listFrom cX5_listFrom 7 (r + 1) 0 0 [.ref (ad 45), .int (nI S), .int (nI Fr), .int (nI k)] (mW E ad kp tr iv ia K R mv) (fun (u : Unit) => True) (fun (u : Unit) => mW E ad kp tr (va_up iv 30 (nI (c + (gF (okM K) n st r S k).length))) (va_up ia 29 (wrL (ia 29) c (gF (okM K) n st r S k))) K R mv) := by
  intro r
  induction r using Nat.strongRecOn with
  | _ r ih =>
    intro ad kp tr iv ia K R mv n st S Fr k c hn hst hc hn8 hs4 hr hFr hS hk hcap
    refine CtV.of (by decide +kernel) (Nat.le_of_ble_eq_true rfl) ?_
    intro pR eR sR mR aR bR tR cR AR ls QR hxR hbR hmlR hts hown hlk hnm hA hK hI hl hret
    have hl : lv_has ls 7 [(0, .ref (ad 45)), (1, .int (nI S)), (2, .int (nI Fr)), (3, .int (nI k))] := hl
    refine lv_iload_n hxR hbR dX5_listFrom_0 rfl (lv_at hl 3 rfl) ?_
    refine lv_aload_n hxR hbR dX5_listFrom_1 rfl (lv_at hl 0 rfl) ?_
    refine r_get hxR hbR hts hown hK hI okX5 (ci := 5) rfl 16 mW_o 14 (by decide) q1492 rfl (v := .int (nI st)) (al hst) dX5_listFrom_2 ?_
    refine lv_icmp_ne (tgt := 26) hxR hbR dX5_listFrom_5 (by decide) (fun c_5 => ?_) (fun c_5 => ?_)
    · skip
      have c_5 : ¬ k = st := fun zz => c_5 ((n_eq (a := k) (b := st) (by omega) (by omega)).mpr zz)
      refine lv_iload_n hxR hbR dX5_listFrom_26 rfl (lv_at hl 2 rfl) ?_
      refine lv_istore (lv' := [(4, .int (nI Fr)), (0, .ref (ad 45)), (1, .int (nI S)), (2, .int (nI Fr)), (3, .int (nI k))]) hxR hbR dX5_listFrom_27 hl (by decide) rfl (fun ls hl => ?_)
      have hI := wI_w (ws' := mW E ad kp tr (va_up iv 30 (nI c)) ia K R mv) (by rw [va_up_id (f := iv) (k := 30) (v := nI c) hc]) hI
      have hI := wI_w (ws' := mW E ad kp tr (va_up iv 30 (nI c)) (va_up ia 29 (ia 29)) K R mv) (by rw [va_up_id (f := ia) (k := 29) (v := ia 29) rfl]) hI
      have lp_29 : ∀ (fu : Nat) (p : Nat) (cc : Nat) (g : Nat → Int32) (pre : List Nat), (Fr ≤ p) → (p ≤ n) → (cc = c + pre.length) → (g = wrL (ia 29) c pre) → (pre ++ gF (okM K) n st (n - p) S k = gF (okM K) n st r S k) → (cc + chs (n - p) (st - k) ≤ 70) → n - p < fu → ∀ (H : Heap) (locs : List Loc), wI E AR sR H locs (mW E ad kp tr (va_up iv 30 (nI cc)) (va_up ia 29 g) K R mv) → ∀ ls : Array Slot, lv_has ls 7 [(0, .ref (ad 45)), (1, .int (nI S)), (2, .int (nI Fr)), (3, .int (nI k)), (4, .int (nI p))] → W pR l eR (rmF (r + 1) 0 0) sR mR aR bR tR cR H locs 0 0 QR (F0 mR 29 ls []) := by
        intro fu
        induction fu with
        | zero =>
          intro p cc g pre hp0 hpn hcc hg hpre hcap2 hfu
          exact absurd hfu (Nat.not_lt_zero _)
        | succ fu ih_29 =>
          intro p cc g pre hp0 hpn hcc hg hpre hcap2 hfu H locs hI ls hl
          refine lv_iload hxR hbR dX5_listFrom_29 (lv_at hl 4 rfl) ?_
          refine lv_aload_n hxR hbR dX5_listFrom_31 rfl (lv_at hl 0 rfl) ?_
          refine r_get hxR hbR hts hown hK hI okX5 (ci := 5) rfl 16 mW_o 10 (by decide) q1488 rfl (v := .int (nI n)) (al (up_n (by decide) hn)) dX5_listFrom_32 ?_
          refine lv_icmp_ge (tgt := 118) hxR hbR dX5_listFrom_35 (by decide) (fun c_35 => ?_) (fun c_35 => ?_)
          · skip
            have c_35 : n ≤ p := (n_le (a := n) (b := p) (by omega) (by omega)).mp c_35
            have hI : wI E AR sR H locs (mW E ad kp tr (va_up iv 30 (nI (c + (gF (okM K) n st r S k).length))) (va_up ia 29 (wrL (ia 29) c (gF (okM K) n st r S k))) K R mv) := by rw [show p = n by omega, Nat.sub_self, gF_0 _ c_5, List.append_nil] at hpre; rw [← hpre, ← hg, ← hcc]; exact hI
            exact hret () _ _ _ _ _ _ dX5_listFrom_118 hI (by show True; trivial) (Nat.le_of_ble_eq_true rfl) (Nat.le_of_ble_eq_true rfl)
          · skip
            have c_35 : p < n := Nat.lt_of_not_le (fun zz => c_35 ((n_le (a := n) (b := p) (by omega) (by omega)).mpr zz))
            have he := chs_s (n := n) (st := st) (k := k) (p := p) c_35 (by omega)
            refine lv_iconst (v := 1) hxR hbR dX5_listFrom_38 (by decide) ?_
            refine lv_istore (lv' := [(5, .int 1), (0, .ref (ad 45)), (1, .int (nI S)), (2, .int (nI Fr)), (3, .int (nI k)), (4, .int (nI p))]) hxR hbR dX5_listFrom_39 hl (by decide) rfl (fun ls hl => ?_)
            refine lv_iconst (v := 0) hxR hbR dX5_listFrom_41 (by decide) ?_
            refine lv_istore (lv' := [(6, .int 0), (5, .int 1), (0, .ref (ad 45)), (1, .int (nI S)), (2, .int (nI Fr)), (3, .int (nI k)), (4, .int (nI p))]) hxR hbR dX5_listFrom_42 hl (by decide) rfl (fun ls hl => ?_)
            have lp_44 : ∀ (fu : Nat) (q : Nat) (b : Nat), (q ≤ p) → (b = if okS K S p q = true then 1 else 0) → p - q < fu → ∀ (H : Heap) (locs : List Loc), wI E AR sR H locs (mW E ad kp tr (va_up iv 30 (nI cc)) (va_up ia 29 g) K R mv) → ∀ ls : Array Slot, lv_has ls 7 [(0, .ref (ad 45)), (1, .int (nI S)), (2, .int (nI Fr)), (3, .int (nI k)), (4, .int (nI p)), (5, .int (nI b)), (6, .int (nI q))] → W pR l eR (rmF (r + 1) 0 0) sR mR aR bR tR cR H locs 0 0 QR (F0 mR 44 ls []) := by
              intro fu
              induction fu with
              | zero =>
                intro q b hq hb hfu
                exact absurd hfu (Nat.not_lt_zero _)
              | succ fu ih_44 =>
                intro q b hq hb hfu H locs hI ls hl
                refine lv_iload hxR hbR dX5_listFrom_44 (lv_at hl 6 rfl) ?_
                refine lv_iload hxR hbR dX5_listFrom_46 (lv_at hl 4 rfl) ?_
                refine lv_icmp_ge (tgt := 90) hxR hbR dX5_listFrom_48 (by decide) (fun c_48 => ?_) (fun c_48 => ?_)
                · skip
                  have c_48 : p ≤ q := (n_le (a := p) (b := q) (by omega) (by omega)).mp c_48
                  refine lv_iload hxR hbR dX5_listFrom_90 (lv_at hl 5 rfl) ?_
                  refine lv_if_eq (tgt := 112) hxR hbR dX5_listFrom_92 (by decide) (fun c_92 => ?_) (fun c_92 => ?_)
                  · skip
                    have c_92 : b = 0 := (n_eq (a := b) (b := 0) (by have := okb_le hb; omega) (by decide)).mp c_92
                    have hok := okb_f hb (by omega) c_92
                    refine lv_iinc (v := nI (p + 1)) (lv' := [(4, .int (nI (p + 1))), (0, .ref (ad 45)), (1, .int (nI S)), (2, .int (nI Fr)), (3, .int (nI k)), (5, .int (nI b)), (6, .int (nI q))]) hxR hbR dX5_listFrom_112 hl (k := 4) rfl (show nI p + 1 = nI (p + 1) from nI_add _ 1) (by decide) rfl (fun ls hl => ?_)
                    refine lv_goto (tgt := 29) hxR hbR dX5_listFrom_115 (by decide) ?_
                    exact ih_29 (p + 1) cc g pre (by first | omega | with_reducible assumption) (by first | omega | with_reducible assumption) (by first | exact hcc | (rw [hcc, List.length_append, Nat.add_assoc])) (by first | exact hg | rw [hg, hcc, wrL_app]) (by first | (rw [← hpre, gF_nn c_35 c_5 hok]) | (rw [← hpre, gF_ny c_35 c_5 hok, List.append_assoc])) (by first | omega | (have := gF_len (okM K) n st (n - (p + 1)) (S ||| 2 ^ p) (k + 1) (by omega); omega)) (by omega) _ _ hI _ (lv_sub hl [1, 2, 3, 4, 0] rfl)
                  · skip
                    have c_92 : ¬ b = 0 := fun zz => c_92 ((n_eq (a := b) (b := 0) (by have := okb_le hb; omega) (by decide)).mpr zz)
                    have hok := okb_t hb (by omega) c_92
                    refine lv_aload_n hxR hbR dX5_listFrom_95 rfl (lv_at hl 0 rfl) ?_
                    refine lv_iload_n hxR hbR dX5_listFrom_96 rfl (lv_at hl 1 rfl) ?_
                    refine lv_iconst (v := 1) hxR hbR dX5_listFrom_97 (by decide) ?_
                    refine lv_iload hxR hbR dX5_listFrom_98 (lv_at hl 4 rfl) ?_
                    refine lv_ishl hxR hbR dX5_listFrom_100 ?_
                    refine lv_as (y := nI (2 ^ p)) (nb_shl p (by omega)) ?_
                    refine lv_ior hxR hbR dX5_listFrom_101 ?_
                    refine lv_as (y := nI (S ||| (2 ^ p))) (nb_or S (2 ^ p)) ?_
                    refine lv_iload hxR hbR dX5_listFrom_102 (lv_at hl 4 rfl) ?_
                    refine lv_iconst (v := 1) hxR hbR dX5_listFrom_104 (by decide) ?_
                    refine lv_iadd hxR hbR dX5_listFrom_105 ?_
                    refine lv_as (y := nI (p + 1)) (nI_add p 1) ?_
                    refine lv_iload_n hxR hbR dX5_listFrom_106 rfl (lv_at hl 3 rfl) ?_
                    refine lv_iconst (v := 1) hxR hbR dX5_listFrom_107 (by decide) ?_
                    refine lv_iadd hxR hbR dX5_listFrom_108 ?_
                    refine lv_as (y := nI (k + 1)) (nI_add k 1) ?_
                    refine kVV (n := 3) (As := [.int (nI (S ||| (2 ^ p))), .int (nI (p + 1)), .int (nI (k + 1))]) (rest := []) (fun w => w) hxR hbR hmlR hts hown hK hA hl.1 isCtx.id hI (ih (n - (p + 1)) (by omega) ad kp tr (va_up iv 30 (nI cc)) (va_up ia 29 g) K R mv n st (S ||| (2 ^ p)) (p + 1) (k + 1) cc (up_n (by decide) hn) (up_n (by decide) hst) va_up_s (by first | omega | with_reducible assumption) (by first | omega | with_reducible assumption) rfl (by first | omega | with_reducible assumption) (or_lt hS (Nat.pow_lt_pow_right (by decide) (by omega))) (by first | omega | with_reducible assumption) (by omega)) (lw_V q1676 q1678 qs39 q86 q1679) ⟨rfl, by decide +kernel⟩ 16 5 rfl rfl mW_o rfl (by omega) (Nat.le_of_ble_eq_true rfl) ⟨Nat.le_of_ble_eq_true rfl, Nat.le_of_ble_eq_true rfl⟩ (Nat.le_of_ble_eq_true rfl) dX5_listFrom_109 (fun u H locs hp hI hz => ?_)
                    have hI : wI E AR sR H locs (mW E ad kp tr (va_up (va_up iv 30 (nI cc)) 30 (nI (cc + (gF (okM K) n st (n - (p + 1)) (S ||| (2 ^ p)) (k + 1)).length))) (va_up (va_up ia 29 g) 29 (wrL (g) cc (gF (okM K) n st (n - (p + 1)) (S ||| (2 ^ p)) (k + 1)))) K R mv) := hI
                    have hI := wI_w (ws' := mW E ad kp tr (va_up iv 30 (nI (cc + (gF (okM K) n st (n - (p + 1)) (S ||| (2 ^ p)) (k + 1)).length))) (va_up ia 29 (wrL (g) cc (gF (okM K) n st (n - (p + 1)) (S ||| (2 ^ p)) (k + 1)))) K R mv) (by rw [(show (va_up iv 30 (nI (cc + (gF (okM K) n st (n - (p + 1)) (S ||| (2 ^ p)) (k + 1)).length))) = (va_up (va_up iv 30 (nI cc)) 30 (nI (cc + (gF (okM K) n st (n - (p + 1)) (S ||| (2 ^ p)) (k + 1)).length))) from (up_0).symm), (show (va_up ia 29 (wrL (g) cc (gF (okM K) n st (n - (p + 1)) (S ||| (2 ^ p)) (k + 1)))) = (va_up (va_up ia 29 g) 29 (wrL (g) cc (gF (okM K) n st (n - (p + 1)) (S ||| (2 ^ p)) (k + 1)))) from (up_0).symm)]) hI
                    have hI : wI E AR sR H locs (mW E ad kp tr (va_up iv 30 (nI (cc + (gF (okM K) n st (n - (p + 1)) (S ||| (2 ^ p)) (k + 1)).length))) (va_up ia 29 (wrL (g) cc (gF (okM K) n st (n - (p + 1)) (S ||| (2 ^ p)) (k + 1)))) K R mv) := hI
                    refine lv_iinc (v := nI (p + 1)) (lv' := [(4, .int (nI (p + 1))), (0, .ref (ad 45)), (1, .int (nI S)), (2, .int (nI Fr)), (3, .int (nI k)), (5, .int (nI b)), (6, .int (nI q))]) hxR hbR dX5_listFrom_112 hl (k := 4) rfl (show nI p + 1 = nI (p + 1) from nI_add _ 1) (by decide) rfl (fun ls hl => ?_)
                    refine lv_goto (tgt := 29) hxR hbR dX5_listFrom_115 (by decide) ?_
                    exact ih_29 (p + 1) (cc + (gF (okM K) n st (n - (p + 1)) (S ||| (2 ^ p)) (k + 1)).length) (wrL (g) cc (gF (okM K) n st (n - (p + 1)) (S ||| (2 ^ p)) (k + 1))) (pre ++ gF (okM K) n st (n - (p + 1)) (S ||| 2 ^ p) (k + 1)) (by first | omega | with_reducible assumption) (by first | omega | with_reducible assumption) (by first | exact hcc | (rw [hcc, List.length_append, Nat.add_assoc])) (by first | exact hg | rw [hg, hcc, wrL_app]) (by first | (rw [← hpre, gF_nn c_35 c_5 hok]) | (rw [← hpre, gF_ny c_35 c_5 hok, List.append_assoc])) (by first | omega | (have := gF_len (okM K) n st (n - (p + 1)) (S ||| 2 ^ p) (k + 1) (by omega); omega)) (by omega) _ _ hI _ (lv_sub hl [1, 2, 3, 4, 0] rfl)
                · skip
                  have c_48 : q < p := Nat.lt_of_not_le (fun zz => c_48 ((n_le (a := p) (b := q) (by omega) (by omega)).mpr zz))
                  refine lv_iload hxR hbR dX5_listFrom_51 (lv_at hl 5 rfl) ?_
                  refine lv_iload_n hxR hbR dX5_listFrom_53 rfl (lv_at hl 1 rfl) ?_
                  refine lv_iload hxR hbR dX5_listFrom_54 (lv_at hl 6 rfl) ?_
                  refine kSI (n := 2) (As := [.int (nI S), .int (nI q)]) (rest := [.int (nI b)]) (fun w => w ++ (mW E ad kp tr (va_up iv 30 (nI cc)) (va_up ia 29 g) K R mv)) hxR hbR hmlR hts hown hK hA hl.1 (isCtx.suf _) hI (c5_has l E  S q (by omega) (by first | omega | with_reducible assumption)) (lw_S q1680 q1681 q86 q1682) (by decide +kernel) rfl (by omega) (Nat.le_of_ble_eq_true rfl) ⟨Nat.le_of_ble_eq_true rfl, Nat.le_of_ble_eq_true rfl⟩ (Nat.le_of_ble_eq_true rfl) dX5_listFrom_56 (fun r_56 u H locs hp hI hz => ?_)
                  have hI : wI E AR sR H locs (mW E ad kp tr (va_up iv 30 (nI cc)) (va_up ia 29 g) K R mv) := hI
                  have hp : r_56 = b2i (S.testBit q) := hp
                  have hr_56 := hp
                  rcases b2i_cases hr_56 with ⟨c_56, rfl⟩ | ⟨c_56, rfl⟩
                  · skip
                    have c_56 : S.testBit q = true := c_56
                    refine lv_if_eq (tgt := 76) hxR hbR dX5_listFrom_59 (by decide) (fun c => absurd c (by decide)) (fun _ => ?_)
                    refine lv_aload_n hxR hbR dX5_listFrom_62 rfl (lv_at hl 0 rfl) ?_
                    refine r_get hxR hbR hts hown hK hI okX5 (ci := 5) rfl 16 mW_o 13 (by decide) q1491 rfl (v := .ref (ad 13)) rfl dX5_listFrom_63 ?_
                    refine lv_iload hxR hbR dX5_listFrom_66 (lv_at hl 4 rfl) ?_
                    refine r_aald hxR hbR hK hI 28 2 (r := ad (50 + p)) rfl rfl (n := 8) (J := p) rfl (by omega) (by decide) rfl dX5_listFrom_68 ?_
                    refine lv_iload hxR hbR dX5_listFrom_69 (lv_at hl 6 rfl) ?_
                    refine r_iald hxR hbR hK hI p (n := 8) (J := q) (f := K p) (v := (K p) q) (mW_K p (by omega)) (by omega) (by decide) rfl dX5_listFrom_71 ?_
                    refine lv_iconst (v := (-1)) hxR hbR dX5_listFrom_72 (by decide) ?_
                    refine lv_icmp_ne (tgt := 80) hxR hbR dX5_listFrom_73 (by decide) (fun c_73 => ?_) (fun c_73 => ?_)
                    · skip
                      refine lv_iconst (v := 0) hxR hbR dX5_listFrom_80 (by decide) ?_
                      refine lv_iand hxR hbR dX5_listFrom_81 ?_
                      refine lv_as (y := nI (b &&& 0)) (nb_and b 0) ?_
                      refine lv_istore (lv' := [(5, .int (nI (b &&& 0))), (0, .ref (ad 45)), (1, .int (nI S)), (2, .int (nI Fr)), (3, .int (nI k)), (4, .int (nI p)), (6, .int (nI q))]) hxR hbR dX5_listFrom_82 hl (by decide) rfl (fun ls hl => ?_)
                      refine lv_iinc (v := nI (q + 1)) (lv' := [(6, .int (nI (q + 1))), (5, .int (nI (b &&& 0))), (0, .ref (ad 45)), (1, .int (nI S)), (2, .int (nI Fr)), (3, .int (nI k)), (4, .int (nI p))]) hxR hbR dX5_listFrom_84 hl (k := 6) rfl (show nI q + 1 = nI (q + 1) from nI_add _ 1) (by decide) rfl (fun ls hl => ?_)
                      refine lv_goto (tgt := 44) hxR hbR dX5_listFrom_87 (by decide) ?_
                      exact ih_44 (q + 1) (b &&& 0) (by first | omega | with_reducible assumption) (by first | exact okb1 hb (Or.inl c_56) | exact okb1 hb (Or.inr c_73) | exact okb0 c_56 c_73) (by omega) _ _ hI _ (lv_sub hl [2, 3, 4, 5, 6, 1, 0] rfl)
                    · skip
                      refine lv_iconst (v := 1) hxR hbR dX5_listFrom_76 (by decide) ?_
                      refine lv_goto (tgt := 81) hxR hbR dX5_listFrom_77 (by decide) ?_
                      refine lv_iand hxR hbR dX5_listFrom_81 ?_
                      refine lv_as (y := nI (b &&& 1)) (nb_and b 1) ?_
                      refine lv_istore (lv' := [(5, .int (nI (b &&& 1))), (0, .ref (ad 45)), (1, .int (nI S)), (2, .int (nI Fr)), (3, .int (nI k)), (4, .int (nI p)), (6, .int (nI q))]) hxR hbR dX5_listFrom_82 hl (by decide) rfl (fun ls hl => ?_)
                      refine lv_iinc (v := nI (q + 1)) (lv' := [(6, .int (nI (q + 1))), (5, .int (nI (b &&& 1))), (0, .ref (ad 45)), (1, .int (nI S)), (2, .int (nI Fr)), (3, .int (nI k)), (4, .int (nI p))]) hxR hbR dX5_listFrom_84 hl (k := 6) rfl (show nI q + 1 = nI (q + 1) from nI_add _ 1) (by decide) rfl (fun ls hl => ?_)
                      refine lv_goto (tgt := 44) hxR hbR dX5_listFrom_87 (by decide) ?_
                      exact ih_44 (q + 1) (b &&& 1) (by first | omega | with_reducible assumption) (by first | exact okb1 hb (Or.inl c_56) | exact okb1 hb (Or.inr c_73) | exact okb0 c_56 c_73) (by omega) _ _ hI _ (lv_sub hl [2, 3, 4, 5, 6, 1, 0] rfl)
                  · skip
                    have c_56 : S.testBit q = false := c_56
                    refine lv_if_eq (tgt := 76) hxR hbR dX5_listFrom_59 (by decide) (fun _ => ?_) (fun c => absurd c (by decide))
                    refine lv_iconst (v := 1) hxR hbR dX5_listFrom_76 (by decide) ?_
                    refine lv_goto (tgt := 81) hxR hbR dX5_listFrom_77 (by decide) ?_
                    refine lv_iand hxR hbR dX5_listFrom_81 ?_
                    refine lv_as (y := nI (b &&& 1)) (nb_and b 1) ?_
                    refine lv_istore (lv' := [(5, .int (nI (b &&& 1))), (0, .ref (ad 45)), (1, .int (nI S)), (2, .int (nI Fr)), (3, .int (nI k)), (4, .int (nI p)), (6, .int (nI q))]) hxR hbR dX5_listFrom_82 hl (by decide) rfl (fun ls hl => ?_)
                    refine lv_iinc (v := nI (q + 1)) (lv' := [(6, .int (nI (q + 1))), (5, .int (nI (b &&& 1))), (0, .ref (ad 45)), (1, .int (nI S)), (2, .int (nI Fr)), (3, .int (nI k)), (4, .int (nI p))]) hxR hbR dX5_listFrom_84 hl (k := 6) rfl (show nI q + 1 = nI (q + 1) from nI_add _ 1) (by decide) rfl (fun ls hl => ?_)
                    refine lv_goto (tgt := 44) hxR hbR dX5_listFrom_87 (by decide) ?_
                    exact ih_44 (q + 1) (b &&& 1) (by first | omega | with_reducible assumption) (by first | exact okb1 hb (Or.inl c_56) | exact okb1 hb (Or.inr c_73) | exact okb0 c_56 c_73) (by omega) _ _ hI _ (lv_sub hl [2, 3, 4, 5, 6, 1, 0] rfl)
            exact lp_44 _ 0 1 (by first | omega | with_reducible assumption) rfl (Nat.lt_succ_self _) _ _ hI _ (lv_sub hl [2, 3, 4, 5, 6, 1, 0] rfl)
      exact lp_29 _ Fr c (ia 29) ([]) (by first | omega | with_reducible assumption) (by first | omega | with_reducible assumption) rfl (wrL_nil _ _).symm (by rw [hr]; rfl) (by rw [← hr]; exact hcap) (Nat.lt_succ_self _) _ _ hI _ (lv_sub hl [1, 2, 3, 4, 0] rfl)
    · skip
      have c_5 : k = st := (n_eq (a := k) (b := st) (by omega) (by omega)).mp c_5
      have e1 : chs r (st - k) = 1 := by rw [c_5, Nat.sub_self]; cases r <;> rfl
      have e2 : gF (okM K) n st r S k = [S] := by rw [c_5]; exact gF_full _ _ _ _ _
      refine lv_aload_n hxR hbR dX5_listFrom_8 rfl (lv_at hl 0 rfl) ?_
      refine r_get hxR hbR hts hown hK hI okX5 (ci := 5) rfl 16 mW_o 29 (by decide) q1507 rfl (v := .ref (ad 29)) rfl dX5_listFrom_9 ?_
      refine lv_aload_n hxR hbR dX5_listFrom_12 rfl (lv_at hl 0 rfl) ?_
      refine lv_dup hxR hbR dX5_listFrom_13 rfl ?_
      refine r_get hxR hbR hts hown hK hI okX5 (ci := 5) rfl 16 mW_o 30 (by decide) q1508 rfl (v := .int (nI c)) (al hc) dX5_listFrom_14 ?_
      refine lv_dup_x1 hxR hbR dX5_listFrom_17 rfl rfl ?_
      refine lv_iconst (v := 1) hxR hbR dX5_listFrom_18 (by decide) ?_
      refine lv_iadd hxR hbR dX5_listFrom_19 ?_
      refine lv_as (y := nI (c + 1)) (nI_add c 1) ?_
      refine r_put (v := .int (nI (c + 1))) (ws1 := mW E ad kp tr (va_up iv 30 (nI (c + 1))) ia K R mv) hxR hbR hts hown hK hI okX5 (ci := 5) rfl 16 mW_o 30 (by decide) q1508 rfl rfl rfl rfl (Nat.le_of_ble_eq_true rfl) mW_i30 dX5_listFrom_20 (fun H locs hI => ?_)
      refine lv_iload_n hxR hbR dX5_listFrom_23 rfl (lv_at hl 1 rfl) ?_
      refine r_iast (ws1 := mW E ad kp tr (va_up iv 30 (nI (c + 1))) (va_up ia 29 (va_up (ia 29) c (nI S))) K R mv) hxR hbR hK hI 30 (n := 70) (J := c) (f := ia 29) (mW_g29 rfl) (by omega) (by decide) mW_a29 dX5_listFrom_24 (fun H locs hI => ?_)
      have hI : wI E AR sR H locs (mW E ad kp tr (va_up iv 30 (nI (c + (gF (okM K) n st r S k).length))) (va_up ia 29 (wrL (ia 29) c (gF (okM K) n st r S k))) K R mv) := by rw [e2, ← wrL_one]; exact hI
      exact hret () _ _ _ _ _ _ dX5_listFrom_25 hI (by show True; trivial) (Nat.le_of_ble_eq_true rfl) (Nat.le_of_ble_eq_true rfl)

theorem c5_listAll (l : Launch) (E : En) (ad : Nat → Nat) (kp tr : Option Nat) (iv : Nat → Int32) (ia K : Nat → Nat → Int32) (R : Nat → Nat → Int64) (mv : Nat → Int64) (n st : Nat) (hn : iv 10 = nI n) (hst : iv 14 = nI st) (hn8 : n ≤ 8) (hs4 : st ≤ 4) : CtV l E yX5_listAll cX5_listAll 1 10 0 0 [.ref (ad 45)] (mW E ad kp tr iv ia K R mv) (fun (u : Unit) => True) (fun (u : Unit) => mW E ad kp tr (va_up iv 30 (nI ((GL K n st).length))) (va_up ia 29 (wrL (ia 29) 0 (GL K n st))) K R mv) := by
  refine CtV.of (by decide +kernel) (Nat.le_of_ble_eq_true rfl) ?_
  intro pR eR sR mR aR bR tR cR AR ls QR hxR hbR hmlR hts hown hlk hnm hA hK hI hl hret
  have hl : lv_has ls 1 [(0, .ref (ad 45))] := hl
  refine lv_aload_n hxR hbR dX5_listAll_0 rfl (lv_at hl 0 rfl) ?_
  refine lv_iconst (v := 0) hxR hbR dX5_listAll_1 (by decide) ?_
  refine r_put (v := .int 0) (ws1 := mW E ad kp tr (va_up iv 30 0) ia K R mv) hxR hbR hts hown hK hI okX5 (ci := 5) rfl 16 mW_o 30 (by decide) q1508 rfl rfl rfl rfl (Nat.le_of_ble_eq_true rfl) mW_i30 dX5_listAll_2 (fun H locs hI => ?_)
  refine lv_aload_n hxR hbR dX5_listAll_5 rfl (lv_at hl 0 rfl) ?_
  refine lv_iconst (v := 0) hxR hbR dX5_listAll_6 (by decide) ?_
  refine lv_iconst (v := 0) hxR hbR dX5_listAll_7 (by decide) ?_
  refine lv_iconst (v := 0) hxR hbR dX5_listAll_8 (by decide) ?_
  refine kVV (n := 3) (As := [.int 0, .int 0, .int 0]) (rest := []) (fun w => w) hxR hbR hmlR hts hown hK hA hl.1 isCtx.id hI (c5_listFrom l E n ad kp tr (va_up iv 30 0) ia K R mv n st 0 0 0 0 (up_n (by decide) hn) (up_n (by decide) hst) va_up_s (by first | omega | with_reducible assumption) (by first | omega | with_reducible assumption) rfl (by first | omega | with_reducible assumption) (by first | omega | with_reducible assumption) (by first | omega | with_reducible assumption) (by have := chs_70 n hn8 st hs4; rw [Nat.sub_zero]; omega)) (lw_V q1676 q1678 qs39 q86 q1679) ⟨rfl, by decide +kernel⟩ 16 5 rfl rfl mW_o rfl (by omega) (Nat.le_of_ble_eq_true rfl) ⟨Nat.le_of_ble_eq_true rfl, Nat.le_of_ble_eq_true rfl⟩ (Nat.le_of_ble_eq_true rfl) dX5_listAll_9 (fun u H locs hp hI hz => ?_)
  have hI : wI E AR sR H locs (mW E ad kp tr (va_up (va_up iv 30 0) 30 (nI (0 + (gF (okM K) n st n 0 0).length))) (va_up ia 29 (wrL (ia 29) 0 (gF (okM K) n st n 0 0))) K R mv) := hI
  have hI := wI_w (ws' := mW E ad kp tr (va_up iv 30 (nI (0 + (gF (okM K) n st n 0 0).length))) (va_up ia 29 (wrL (ia 29) 0 (gF (okM K) n st n 0 0))) K R mv) (by rw [(show (va_up iv 30 (nI (0 + (gF (okM K) n st n 0 0).length))) = (va_up (va_up iv 30 0) 30 (nI (0 + (gF (okM K) n st n 0 0).length))) from (up_0).symm)]) hI
  have hI : wI E AR sR H locs (mW E ad kp tr (va_up iv 30 (nI (0 + (gF (okM K) n st n 0 0).length))) (va_up ia 29 (wrL (ia 29) 0 (gF (okM K) n st n 0 0))) K R mv) := hI
  have hI : wI E AR sR H locs (mW E ad kp tr (va_up iv 30 (nI ((GL K n st).length))) (va_up ia 29 (wrL (ia 29) 0 (GL K n st))) K R mv) := by rw [Nat.zero_add] at hI; exact hI
  exact hret () _ _ _ _ _ _ dX5_listAll_12 hI (by show True; trivial) (Nat.le_of_ble_eq_true rfl) (Nat.le_of_ble_eq_true rfl)
