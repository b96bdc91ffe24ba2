theorem c5_sentBy (l : Launch) (E : En) (ad : Nat → Nat) (kp tr : Option Nat) (iv : Nat → Int32) (ia K : Nat → Nat → Int32) (R : Nat → Nat → Int64) (mv : Nat → Int64) (n st kd k9 Y tc : Nat) (hn : iv 10 = nI n) (hst : iv 14 = nI st) (hn8 : n ≤ 8) (hs2 : 2 ≤ st) (hs4 : st ≤ 4) (hkd : kd < 100) (h9 : k9 < 100) (hY : Y < 256) (htc : tc < 100) : CtI l E yX5_sentBy cX5_sentBy 8 .int 259 0 0 [.ref (ad 45), .int (nI kd), .int (nI k9), .int (nI Y), .int (nI tc)] (mW E ad kp tr iv ia K R mv) (fun (r : Int32) (u : Unit) => r = nI (sentV K (ia 12) n st kd k9 Y tc)) (fun (u : Unit) => mW E ad kp tr (va_up iv 30 (nI ((GL K n st).length))) (va_up ia 29 (wrL (ia 29) 0 (GL K n st))) K R mv) := by
  refine CtI.of (by decide +kernel) (Nat.le_of_ble_eq_true rfl) ?_
  intro pR eR sR mR aR bR tR cR AR ls QR hxR hbR hmlR hts hown hlk hnm hA hK hI hl hret
  have hl : lv_has ls 8 [(0, .ref (ad 45)), (1, .int (nI kd)), (2, .int (nI k9)), (3, .int (nI Y)), (4, .int (nI tc))] := hl
  refine lv_aload_n hxR hbR dX5_sentBy_0 rfl (lv_at hl 0 rfl) ?_
  refine kVV (n := 0) (As := []) (rest := []) (fun w => w) hxR hbR hmlR hts hown hK hA hl.1 isCtx.id hI (c5_listAll l E ad kp tr iv ia K R mv n st hn hst (by first | omega | with_reducible assumption) (by first | omega | with_reducible assumption)) (lw_V q1672 q1674 qs38 q86 q1675) ⟨rfl, by decide +kernel⟩ 16 5 rfl rfl mW_o rfl (Nat.le_of_ble_eq_true rfl) (Nat.le_of_ble_eq_true rfl) ⟨Nat.le_of_ble_eq_true rfl, Nat.le_of_ble_eq_true rfl⟩ (Nat.le_of_ble_eq_true rfl) dX5_sentBy_1 (fun u H locs hp hI hz => ?_)
  have hI : wI E AR sR H locs (mW E ad kp tr (va_up iv 30 (nI ((GL K n st).length))) (va_up ia 29 (wrL (ia 29) 0 (GL K n st))) K R mv) := hI
  have hL := isL_GL (f := ia 29) (K := K) hn8 hs2 hs4
  have hl70 := hL.2.1
  have cut_24 : (¬ (kd = 3 ∧ 0 < tc ∧ bitsN Y 8 < k9)) → ∀ (H : Heap) (locs : List Loc), wI E AR sR H locs (mW E ad kp tr (va_up iv 30 (nI ((GL K n st).length))) (va_up ia 29 (wrL (ia 29) 0 (GL K n st))) K R mv) → ∀ ls : Array Slot, lv_has ls 8 [(0, .ref (ad 45)), (1, .int (nI kd)), (2, .int (nI k9)), (3, .int (nI Y)), (4, .int (nI tc))] → W pR l eR (rmF 259 0 0) sR mR aR bR tR cR H locs 0 0 QR (F0 mR 24 ls []) := by
    intro  hne H locs hI ls hl
    refine lv_iload_n hxR hbR dX5_sentBy_24 rfl (lv_at hl 1 rfl) ?_
    refine lv_iconst (v := 1) hxR hbR dX5_sentBy_25 (by decide) ?_
    refine lv_icmp_eq (tgt := 34) hxR hbR dX5_sentBy_26 (by decide) (fun c_26 => ?_) (fun c_26 => ?_)
    · skip
      have c_26 : kd = 1 := (n_eq (a := kd) (b := 1) (by omega) (by omega)).mp c_26
      refine lv_aload_n hxR hbR dX5_sentBy_34 rfl (lv_at hl 0 rfl) ?_
      refine lv_iload_n hxR hbR dX5_sentBy_35 rfl (lv_at hl 3 rfl) ?_
      refine kVI (n := 1) (As := [.int (nI Y)]) (rest := []) (fun w => w) hxR hbR hmlR hts hown hK hA hl.1 isCtx.id hI (c5_firstIn l E ad kp tr (va_up iv 30 (nI ((GL K n st).length))) (va_up ia 29 (wrL (ia 29) 0 (GL K n st))) K R mv Y (GL K n st) va_up_s (isL.of va_up_s hL)) (lw_V q1686 q1688 qs40 q86 q1689) ⟨rfl, by decide +kernel⟩ 16 5 rfl rfl mW_o rfl (Nat.le_of_ble_eq_true rfl) (Nat.le_of_ble_eq_true rfl) ⟨Nat.le_of_ble_eq_true rfl, Nat.le_of_ble_eq_true rfl⟩ (Nat.le_of_ble_eq_true rfl) dX5_sentBy_36 (fun r_36 u H locs hp hI hz => ?_)
      have hI : wI E AR sR H locs (mW E ad kp tr (va_up iv 30 (nI ((GL K n st).length))) (va_up ia 29 (wrL (ia 29) 0 (GL K n st))) K R mv) := hI
      have hp : r_36 = nI (firstL Y (GL K n st)) := hp
      have hr_36 := hp
      subst hr_36
      exact hret () (nI (firstL Y (GL K n st))) _ _ _ _ _ _ dX5_sentBy_39 hI (by show (nI (firstL Y (GL K n st))) = nI (sentV K (ia 12) n st kd k9 Y tc); rw [sentV, if_neg hne, if_pos (by omega)]) (Nat.le_of_ble_eq_true rfl) (Nat.le_of_ble_eq_true rfl) rfl
    · skip
      have c_26 : ¬ kd = 1 := fun zz => c_26 ((n_eq (a := kd) (b := 1) (by omega) (by omega)).mpr zz)
      refine lv_iload_n hxR hbR dX5_sentBy_29 rfl (lv_at hl 1 rfl) ?_
      refine lv_iconst (v := 3) hxR hbR dX5_sentBy_30 (by decide) ?_
      refine lv_icmp_ne (tgt := 40) hxR hbR dX5_sentBy_31 (by decide) (fun c_31 => ?_) (fun c_31 => ?_)
      · skip
        have c_31 : ¬ kd = 3 := fun zz => c_31 ((n_eq (a := kd) (b := 3) (by omega) (by omega)).mpr zz)
        have cut_56 : (kd = 2 ∨ kd = 4) → ∀ (H : Heap) (locs : List Loc), wI E AR sR H locs (mW E ad kp tr (va_up iv 30 (nI ((GL K n st).length))) (va_up ia 29 (wrL (ia 29) 0 (GL K n st))) K R mv) → ∀ ls : Array Slot, lv_has ls 8 [(0, .ref (ad 45)), (1, .int (nI kd)), (2, .int (nI k9)), (3, .int (nI Y)), (4, .int (nI tc))] → W pR l eR (rmF 259 0 0) sR mR aR bR tR cR H locs 0 0 QR (F0 mR 56 ls []) := by
          intro  hk24 H locs hI ls hl
          refine lv_iconst (v := 0) hxR hbR dX5_sentBy_56 (by decide) ?_
          refine lv_istore (lv' := [(5, .int 0), (0, .ref (ad 45)), (1, .int (nI kd)), (2, .int (nI k9)), (3, .int (nI Y)), (4, .int (nI tc))]) hxR hbR dX5_sentBy_57 hl (by decide) rfl (fun ls hl => ?_)
          refine lv_iconst (v := 0) hxR hbR dX5_sentBy_59 (by decide) ?_
          refine lv_istore (lv' := [(6, .int 0), (5, .int 0), (0, .ref (ad 45)), (1, .int (nI kd)), (2, .int (nI k9)), (3, .int (nI Y)), (4, .int (nI tc))]) hxR hbR dX5_sentBy_60 hl (by decide) rfl (fun ls hl => ?_)
          have lp_62 : ∀ (fu : Nat) (i : Nat) (b : Nat), (i ≤ (GL K n st).length) → (((GL K n st).drop i).foldl (chooseG K (ia 12) n kd Y) b = (GL K n st).foldl (chooseG K (ia 12) n kd Y) 0) → (b < 256) → (GL K n st).length - i < fu → ∀ (H : Heap) (locs : List Loc), wI E AR sR H locs (mW E ad kp tr (va_up iv 30 (nI ((GL K n st).length))) (va_up ia 29 (wrL (ia 29) 0 (GL K n st))) K R mv) → ∀ ls : Array Slot, lv_has ls 8 [(0, .ref (ad 45)), (1, .int (nI kd)), (2, .int (nI k9)), (3, .int (nI Y)), (4, .int (nI tc)), (5, .int (nI b)), (6, .int (nI i))] → W pR l eR (rmF 259 0 0) sR mR aR bR tR cR H locs 0 0 QR (F0 mR 62 ls []) := by
            intro fu
            induction fu with
            | zero =>
              intro i b hi hbb hb8 hfu
              exact absurd hfu (Nat.not_lt_zero _)
            | succ fu ih_62 =>
              intro i b hi hbb hb8 hfu H locs hI ls hl
              refine lv_iload hxR hbR dX5_sentBy_62 (lv_at hl 6 rfl) ?_
              refine lv_aload_n hxR hbR dX5_sentBy_64 rfl (lv_at hl 0 rfl) ?_
              refine r_get hxR hbR hts hown hK hI okX5 (ci := 5) rfl 16 mW_o 30 (by decide) q1508 rfl (v := .int (nI ((GL K n st).length))) (al va_up_s) dX5_sentBy_65 ?_
              refine lv_icmp_ge (tgt := 175) hxR hbR dX5_sentBy_68 (by decide) (fun c_68 => ?_) (fun c_68 => ?_)
              · skip
                have c_68 : ((GL K n st).length) ≤ i := (n_le (a := ((GL K n st).length)) (b := i) (by omega) (by omega)).mp c_68
                refine lv_iload hxR hbR dX5_sentBy_175 (lv_at hl 5 rfl) ?_
                exact hret () (nI b) _ _ _ _ _ _ dX5_sentBy_177 hI (by show (nI b) = nI (sentV K (ia 12) n st kd k9 Y tc); rw [sentV, if_neg hne, if_neg (by omega), if_neg (by omega), foldl_e (by omega) hbb]) (Nat.le_of_ble_eq_true rfl) (Nat.le_of_ble_eq_true rfl) rfl
              · skip
                have c_68 : i < ((GL K n st).length) := Nat.lt_of_not_le (fun zz => c_68 ((n_le (a := ((GL K n st).length)) (b := i) (by omega) (by omega)).mpr zz))
                refine lv_aload_n hxR hbR dX5_sentBy_71 rfl (lv_at hl 0 rfl) ?_
                refine r_get hxR hbR hts hown hK hI okX5 (ci := 5) rfl 16 mW_o 29 (by decide) q1507 rfl (v := .ref (ad 29)) rfl dX5_sentBy_72 ?_
                refine lv_iload hxR hbR dX5_sentBy_75 (lv_at hl 6 rfl) ?_
                refine r_iald hxR hbR hK hI 30 (n := 70) (J := i) (f := wrL (ia 29) 0 (GL K n st)) (v := nI ((GL K n st).getD i 0)) (mW_g29 va_up_s) (by omega) (by decide) (hL.at (by omega)) dX5_sentBy_77 ?_
                refine lv_iload_n hxR hbR dX5_sentBy_78 rfl (lv_at hl 3 rfl) ?_
                refine lv_iconst (v := (-1)) hxR hbR dX5_sentBy_79 (by decide) ?_
                refine lv_ixor hxR hbR dX5_sentBy_80 ?_
                refine lv_iand hxR hbR dX5_sentBy_81 ?_
                refine lv_as (y := nI (nd ((GL K n st).getD i 0) Y)) (nb_nd ((GL K n st).getD i 0) Y) ?_
                refine lv_if_ne (tgt := 169) hxR hbR dX5_sentBy_82 (by decide) (fun c_82 => ?_) (fun c_82 => ?_)
                · skip
                  have c_82 : ¬ (nd ((GL K n st).getD i 0) Y) = 0 := fun zz => c_82 ((n_eq (a := (nd ((GL K n st).getD i 0) Y)) (b := 0) (by have := nd_le ((GL K n st).getD i 0) Y; have := hL.lt (j := i) (by omega); omega) (by decide)).mpr zz)
                  refine lv_iinc (v := nI (i + 1)) (lv' := [(6, .int (nI (i + 1))), (0, .ref (ad 45)), (1, .int (nI kd)), (2, .int (nI k9)), (3, .int (nI Y)), (4, .int (nI tc)), (5, .int (nI b))]) hxR hbR dX5_sentBy_169 hl (k := 6) rfl (show nI i + 1 = nI (i + 1) from nI_add _ 1) (by decide) rfl (fun ls hl => ?_)
                  refine lv_goto (tgt := 62) hxR hbR dX5_sentBy_172 (by decide) ?_
                  exact ih_62 (i + 1) b (by first | omega | with_reducible assumption) (by first | exact (chG_n (b := b) c_82) ▸ foldl_d c_68 hbb | exact (chG_0 c_82 c_147) ▸ foldl_d c_68 hbb | exact (chG_b c_82 (bt_1 c_87 c_107) (by decide)) ▸ foldl_d c_68 hbb | exact (chG_b c_82 (bt_3 c_87 c_135) (by decide)) ▸ foldl_d c_68 hbb | exact (chG_w c_147 (bt_2 c_87 c_107) rfl) ▸ foldl_d c_68 hbb | exact (chG_w c_147 (bt_4 c_87 c_135) rfl) ▸ foldl_d c_68 hbb) (by first | omega | with_reducible assumption) (by omega) _ _ hI _ (lv_sub hl [1, 2, 3, 4, 5, 6, 0] rfl)
                · skip
                  have c_82 : (nd ((GL K n st).getD i 0) Y) = 0 := (n_eq (a := (nd ((GL K n st).getD i 0) Y)) (b := 0) (by have := nd_le ((GL K n st).getD i 0) Y; have := hL.lt (j := i) (by omega); omega) (by decide)).mp c_82
                  have hlt := hL.lt c_68
                  refine lv_iload_n hxR hbR dX5_sentBy_85 rfl (lv_at hl 1 rfl) ?_
                  refine lv_iconst (v := 2) hxR hbR dX5_sentBy_86 (by decide) ?_
                  refine lv_icmp_ne (tgt := 118) hxR hbR dX5_sentBy_87 (by decide) (fun c_87 => ?_) (fun c_87 => ?_)
                  · skip
                    have c_87 : ¬ kd = 2 := fun zz => c_87 ((n_eq (a := kd) (b := 2) (by omega) (by omega)).mpr zz)
                    refine lv_aload_n hxR hbR dX5_sentBy_118 rfl (lv_at hl 0 rfl) ?_
                    refine lv_aload_n hxR hbR dX5_sentBy_119 rfl (lv_at hl 0 rfl) ?_
                    refine r_get hxR hbR hts hown hK hI okX5 (ci := 5) rfl 16 mW_o 29 (by decide) q1507 rfl (v := .ref (ad 29)) rfl dX5_sentBy_120 ?_
                    refine lv_iload hxR hbR dX5_sentBy_123 (lv_at hl 6 rfl) ?_
                    refine r_iald hxR hbR hK hI 30 (n := 70) (J := i) (f := wrL (ia 29) 0 (GL K n st)) (v := nI ((GL K n st).getD i 0)) (mW_g29 va_up_s) (by omega) (by decide) (hL.at (by omega)) dX5_sentBy_125 ?_
                    refine kVI (n := 1) (As := [.int (nI ((GL K n st).getD i 0))]) (rest := []) (fun w => w) hxR hbR hmlR hts hown hK hA hl.1 isCtx.id hI (c5_meetsOf l E ad kp tr (va_up iv 30 (nI ((GL K n st).length))) (va_up ia 29 (wrL (ia 29) 0 (GL K n st))) K R mv n ((GL K n st).getD i 0) (up_n (by decide) hn) (by first | omega | with_reducible assumption) (by first | omega | with_reducible assumption)) (lw_V q1702 q1704 qs44 q86 q1705) ⟨rfl, by decide +kernel⟩ 16 5 rfl rfl mW_o rfl (Nat.le_of_ble_eq_true rfl) (Nat.le_of_ble_eq_true rfl) ⟨Nat.le_of_ble_eq_true rfl, Nat.le_of_ble_eq_true rfl⟩ (Nat.le_of_ble_eq_true rfl) dX5_sentBy_126 (fun r_126 u H locs hp hI hz => ?_)
                    have hI : wI E AR sR H locs (mW E ad kp tr (va_up iv 30 (nI ((GL K n st).length))) (va_up ia 29 (wrL (ia 29) 0 (GL K n st))) K R mv) := hI
                    have hp : r_126 = sumS (fun p => nI (bitsN (strS K p n) 8)) ((GL K n st).getD i 0) n := hp
                    have hr_126 := hp
                    subst hr_126
                    refine lv_aload_n hxR hbR dX5_sentBy_129 rfl (lv_at hl 0 rfl) ?_
                    refine lv_iload hxR hbR dX5_sentBy_130 (lv_at hl 5 rfl) ?_
                    refine kVI (n := 1) (As := [.int (nI b)]) (rest := [.int (sumS (fun p => nI (bitsN (strS K p n) 8)) ((GL K n st).getD i 0) n)]) (fun w => w) hxR hbR hmlR hts hown hK hA hl.1 isCtx.id hI (c5_meetsOf l E ad kp tr (va_up iv 30 (nI ((GL K n st).length))) (va_up ia 29 (wrL (ia 29) 0 (GL K n st))) K R mv n b (up_n (by decide) hn) (by first | omega | with_reducible assumption) (by first | omega | with_reducible assumption)) (lw_V q1702 q1704 qs44 q86 q1705) ⟨rfl, by decide +kernel⟩ 16 5 rfl rfl mW_o rfl (Nat.le_of_ble_eq_true rfl) (Nat.le_of_ble_eq_true rfl) ⟨Nat.le_of_ble_eq_true rfl, Nat.le_of_ble_eq_true rfl⟩ (Nat.le_of_ble_eq_true rfl) dX5_sentBy_132 (fun r_132 u H locs hp hI hz => ?_)
                    have hI : wI E AR sR H locs (mW E ad kp tr (va_up iv 30 (nI ((GL K n st).length))) (va_up ia 29 (wrL (ia 29) 0 (GL K n st))) K R mv) := hI
                    have hp : r_132 = sumS (fun p => nI (bitsN (strS K p n) 8)) b n := hp
                    have hr_132 := hp
                    subst hr_132
                    refine lv_icmp_ge (tgt := 142) hxR hbR dX5_sentBy_135 (by decide) (fun c_135 => ?_) (fun c_135 => ?_)
                    · skip
                      refine lv_iconst (v := 0) hxR hbR dX5_sentBy_142 (by decide) ?_
                      refine lv_istore (lv' := [(7, .int 0), (0, .ref (ad 45)), (1, .int (nI kd)), (2, .int (nI k9)), (3, .int (nI Y)), (4, .int (nI tc)), (5, .int (nI b)), (6, .int (nI i))]) hxR hbR dX5_sentBy_143 hl (by decide) rfl (fun ls hl => ?_)
                      refine lv_iload hxR hbR dX5_sentBy_145 (lv_at hl 6 rfl) ?_
                      refine lv_if_eq (tgt := 155) hxR hbR dX5_sentBy_147 (by decide) (fun c_147 => ?_) (fun c_147 => ?_)
                      · skip
                        have c_147 : b = 0 := (n_eq (a := b) (b := 0) (by omega) (by omega)).mp c_147
                        refine lv_aload_n hxR hbR dX5_sentBy_155 rfl (lv_at hl 1 rfl) ?_
                        refine r_get hxR hbR hts hown hK hI okX5 (ci := 5) rfl 16 mW_o 29 (by decide) q1507 rfl (v := .ref (ad 29)) rfl dX5_sentBy_156 ?_
                        refine lv_iload hxR hbR dX5_sentBy_159 (lv_at hl 7 rfl) ?_
                        refine r_iald hxR hbR hK hI 30 (n := 70) (J := i) (f := wrL (ia 29) 0 (GL K n st)) (v := nI ((GL K n st).getD i 0)) (mW_g29 va_up_s) (by omega) (by decide) (hL.at (by omega)) dX5_sentBy_161 ?_
                        refine lv_goto (tgt := 167) hxR hbR dX5_sentBy_162 (by decide) ?_
                        refine lv_istore (lv' := [(5, .int (nI ((GL K n st).getD i 0))), (7, .int 0), (0, .ref (ad 45)), (1, .int (nI kd)), (2, .int (nI k9)), (3, .int (nI Y)), (4, .int (nI tc)), (6, .int (nI i))]) hxR hbR dX5_sentBy_167 hl (by decide) rfl (fun ls hl => ?_)
                        refine lv_iinc (v := nI (i + 1)) (lv' := [(6, .int (nI (i + 1))), (5, .int (nI ((GL K n st).getD i 0))), (7, .int 0), (0, .ref (ad 45)), (1, .int (nI kd)), (2, .int (nI k9)), (3, .int (nI Y)), (4, .int (nI tc))]) hxR hbR dX5_sentBy_169 hl (k := 7) rfl (show nI i + 1 = nI (i + 1) from nI_add _ 1) (by decide) rfl (fun ls hl => ?_)
                        refine lv_goto (tgt := 62) hxR hbR dX5_sentBy_172 (by decide) ?_
                        exact ih_62 (i + 1) ((GL K n st).getD i 0) (by first | omega | with_reducible assumption) (by first | exact (chG_n (b := b) c_82) ▸ foldl_d c_68 hbb | exact (chG_0 c_82 c_147) ▸ foldl_d c_68 hbb | exact (chG_b c_82 (bt_1 c_87 c_107) (by decide)) ▸ foldl_d c_68 hbb | exact (chG_b c_82 (bt_3 c_87 c_135) (by decide)) ▸ foldl_d c_68 hbb | exact (chG_w c_147 (bt_2 c_87 c_107) rfl) ▸ foldl_d c_68 hbb | exact (chG_w c_147 (bt_4 c_87 c_135) rfl) ▸ foldl_d c_68 hbb) (by first | omega | with_reducible assumption) (by omega) _ _ hI _ (lv_sub hl [3, 4, 5, 6, 7, 1, 0] rfl)
                      · skip
                        have c_147 : ¬ b = 0 := fun zz => c_147 ((n_eq (a := b) (b := 0) (by omega) (by omega)).mpr zz)
                        refine lv_iload hxR hbR dX5_sentBy_150 (lv_at hl 0 rfl) ?_
                        refine lv_if_eq (tgt := 165) hxR hbR dX5_sentBy_152 (by decide) (fun _ => ?_) (fun c => absurd c (by decide))
                        refine lv_iload hxR hbR dX5_sentBy_165 (lv_at hl 6 rfl) ?_
                        refine lv_istore (lv' := [(5, .int (nI b)), (7, .int 0), (0, .ref (ad 45)), (1, .int (nI kd)), (2, .int (nI k9)), (3, .int (nI Y)), (4, .int (nI tc)), (6, .int (nI i))]) hxR hbR dX5_sentBy_167 hl (by decide) rfl (fun ls hl => ?_)
                        refine lv_iinc (v := nI (i + 1)) (lv' := [(6, .int (nI (i + 1))), (5, .int (nI b)), (7, .int 0), (0, .ref (ad 45)), (1, .int (nI kd)), (2, .int (nI k9)), (3, .int (nI Y)), (4, .int (nI tc))]) hxR hbR dX5_sentBy_169 hl (k := 7) rfl (show nI i + 1 = nI (i + 1) from nI_add _ 1) (by decide) rfl (fun ls hl => ?_)
                        refine lv_goto (tgt := 62) hxR hbR dX5_sentBy_172 (by decide) ?_
                        exact ih_62 (i + 1) b (by first | omega | with_reducible assumption) (by first | exact (chG_n (b := b) c_82) ▸ foldl_d c_68 hbb | exact (chG_0 c_82 c_147) ▸ foldl_d c_68 hbb | exact (chG_b c_82 (bt_1 c_87 c_107) (by decide)) ▸ foldl_d c_68 hbb | exact (chG_b c_82 (bt_3 c_87 c_135) (by decide)) ▸ foldl_d c_68 hbb | exact (chG_w c_147 (bt_2 c_87 c_107) rfl) ▸ foldl_d c_68 hbb | exact (chG_w c_147 (bt_4 c_87 c_135) rfl) ▸ foldl_d c_68 hbb) (by first | omega | with_reducible assumption) (by omega) _ _ hI _ (lv_sub hl [3, 4, 5, 6, 7, 1, 0] rfl)
                    · skip
                      refine lv_iconst (v := 1) hxR hbR dX5_sentBy_138 (by decide) ?_
                      refine lv_goto (tgt := 143) hxR hbR dX5_sentBy_139 (by decide) ?_
                      refine lv_istore (lv' := [(7, .int 1), (0, .ref (ad 45)), (1, .int (nI kd)), (2, .int (nI k9)), (3, .int (nI Y)), (4, .int (nI tc)), (5, .int (nI b)), (6, .int (nI i))]) hxR hbR dX5_sentBy_143 hl (by decide) rfl (fun ls hl => ?_)
                      refine lv_iload hxR hbR dX5_sentBy_145 (lv_at hl 6 rfl) ?_
                      refine lv_if_eq (tgt := 155) hxR hbR dX5_sentBy_147 (by decide) (fun c_147 => ?_) (fun c_147 => ?_)
                      · skip
                        have c_147 : b = 0 := (n_eq (a := b) (b := 0) (by omega) (by omega)).mp c_147
                        refine lv_aload_n hxR hbR dX5_sentBy_155 rfl (lv_at hl 1 rfl) ?_
                        refine r_get hxR hbR hts hown hK hI okX5 (ci := 5) rfl 16 mW_o 29 (by decide) q1507 rfl (v := .ref (ad 29)) rfl dX5_sentBy_156 ?_
                        refine lv_iload hxR hbR dX5_sentBy_159 (lv_at hl 7 rfl) ?_
                        refine r_iald hxR hbR hK hI 30 (n := 70) (J := i) (f := wrL (ia 29) 0 (GL K n st)) (v := nI ((GL K n st).getD i 0)) (mW_g29 va_up_s) (by omega) (by decide) (hL.at (by omega)) dX5_sentBy_161 ?_
                        refine lv_goto (tgt := 167) hxR hbR dX5_sentBy_162 (by decide) ?_
                        refine lv_istore (lv' := [(5, .int (nI ((GL K n st).getD i 0))), (7, .int 1), (0, .ref (ad 45)), (1, .int (nI kd)), (2, .int (nI k9)), (3, .int (nI Y)), (4, .int (nI tc)), (6, .int (nI i))]) hxR hbR dX5_sentBy_167 hl (by decide) rfl (fun ls hl => ?_)
                        refine lv_iinc (v := nI (i + 1)) (lv' := [(6, .int (nI (i + 1))), (5, .int (nI ((GL K n st).getD i 0))), (7, .int 1), (0, .ref (ad 45)), (1, .int (nI kd)), (2, .int (nI k9)), (3, .int (nI Y)), (4, .int (nI tc))]) hxR hbR dX5_sentBy_169 hl (k := 7) rfl (show nI i + 1 = nI (i + 1) from nI_add _ 1) (by decide) rfl (fun ls hl => ?_)
                        refine lv_goto (tgt := 62) hxR hbR dX5_sentBy_172 (by decide) ?_
                        exact ih_62 (i + 1) ((GL K n st).getD i 0) (by first | omega | with_reducible assumption) (by first | exact (chG_n (b := b) c_82) ▸ foldl_d c_68 hbb | exact (chG_0 c_82 c_147) ▸ foldl_d c_68 hbb | exact (chG_b c_82 (bt_1 c_87 c_107) (by decide)) ▸ foldl_d c_68 hbb | exact (chG_b c_82 (bt_3 c_87 c_135) (by decide)) ▸ foldl_d c_68 hbb | exact (chG_w c_147 (bt_2 c_87 c_107) rfl) ▸ foldl_d c_68 hbb | exact (chG_w c_147 (bt_4 c_87 c_135) rfl) ▸ foldl_d c_68 hbb) (by first | omega | with_reducible assumption) (by omega) _ _ hI _ (lv_sub hl [3, 4, 5, 6, 7, 1, 0] rfl)
                      · skip
                        have c_147 : ¬ b = 0 := fun zz => c_147 ((n_eq (a := b) (b := 0) (by omega) (by omega)).mpr zz)
                        refine lv_iload hxR hbR dX5_sentBy_150 (lv_at hl 0 rfl) ?_
                        refine lv_if_eq (tgt := 165) hxR hbR dX5_sentBy_152 (by decide) (fun c => absurd c (by decide)) (fun _ => ?_)
                        refine lv_aload_n hxR hbR dX5_sentBy_155 rfl (lv_at hl 1 rfl) ?_
                        refine r_get hxR hbR hts hown hK hI okX5 (ci := 5) rfl 16 mW_o 29 (by decide) q1507 rfl (v := .ref (ad 29)) rfl dX5_sentBy_156 ?_
                        refine lv_iload hxR hbR dX5_sentBy_159 (lv_at hl 7 rfl) ?_
                        refine r_iald hxR hbR hK hI 30 (n := 70) (J := i) (f := wrL (ia 29) 0 (GL K n st)) (v := nI ((GL K n st).getD i 0)) (mW_g29 va_up_s) (by omega) (by decide) (hL.at (by omega)) dX5_sentBy_161 ?_
                        refine lv_goto (tgt := 167) hxR hbR dX5_sentBy_162 (by decide) ?_
                        refine lv_istore (lv' := [(5, .int (nI ((GL K n st).getD i 0))), (7, .int 1), (0, .ref (ad 45)), (1, .int (nI kd)), (2, .int (nI k9)), (3, .int (nI Y)), (4, .int (nI tc)), (6, .int (nI i))]) hxR hbR dX5_sentBy_167 hl (by decide) rfl (fun ls hl => ?_)
                        refine lv_iinc (v := nI (i + 1)) (lv' := [(6, .int (nI (i + 1))), (5, .int (nI ((GL K n st).getD i 0))), (7, .int 1), (0, .ref (ad 45)), (1, .int (nI kd)), (2, .int (nI k9)), (3, .int (nI Y)), (4, .int (nI tc))]) hxR hbR dX5_sentBy_169 hl (k := 7) rfl (show nI i + 1 = nI (i + 1) from nI_add _ 1) (by decide) rfl (fun ls hl => ?_)
                        refine lv_goto (tgt := 62) hxR hbR dX5_sentBy_172 (by decide) ?_
                        exact ih_62 (i + 1) ((GL K n st).getD i 0) (by first | omega | with_reducible assumption) (by first | exact (chG_n (b := b) c_82) ▸ foldl_d c_68 hbb | exact (chG_0 c_82 c_147) ▸ foldl_d c_68 hbb | exact (chG_b c_82 (bt_1 c_87 c_107) (by decide)) ▸ foldl_d c_68 hbb | exact (chG_b c_82 (bt_3 c_87 c_135) (by decide)) ▸ foldl_d c_68 hbb | exact (chG_w c_147 (bt_2 c_87 c_107) rfl) ▸ foldl_d c_68 hbb | exact (chG_w c_147 (bt_4 c_87 c_135) rfl) ▸ foldl_d c_68 hbb) (by first | omega | with_reducible assumption) (by omega) _ _ hI _ (lv_sub hl [3, 4, 5, 6, 7, 1, 0] rfl)
                  · skip
                    have c_87 : kd = 2 := (n_eq (a := kd) (b := 2) (by omega) (by omega)).mp c_87
                    refine lv_aload_n hxR hbR dX5_sentBy_90 rfl (lv_at hl 0 rfl) ?_
                    refine lv_aload_n hxR hbR dX5_sentBy_91 rfl (lv_at hl 0 rfl) ?_
                    refine r_get hxR hbR hts hown hK hI okX5 (ci := 5) rfl 16 mW_o 29 (by decide) q1507 rfl (v := .ref (ad 29)) rfl dX5_sentBy_92 ?_
                    refine lv_iload hxR hbR dX5_sentBy_95 (lv_at hl 6 rfl) ?_
                    refine r_iald hxR hbR hK hI 30 (n := 70) (J := i) (f := wrL (ia 29) 0 (GL K n st)) (v := nI ((GL K n st).getD i 0)) (mW_g29 va_up_s) (by omega) (by decide) (hL.at (by omega)) dX5_sentBy_97 ?_
                    refine kVI (n := 1) (As := [.int (nI ((GL K n st).getD i 0))]) (rest := []) (fun w => w) hxR hbR hmlR hts hown hK hA hl.1 isCtx.id hI (c5_costOf l E ad kp tr (va_up iv 30 (nI ((GL K n st).length))) (va_up ia 29 (wrL (ia 29) 0 (GL K n st))) K R mv n ((GL K n st).getD i 0) (up_n (by decide) hn) (by first | omega | with_reducible assumption) (by first | omega | with_reducible assumption)) (lw_V q1698 q1700 qs43 q86 q1701) ⟨rfl, by decide +kernel⟩ 16 5 rfl rfl mW_o rfl (Nat.le_of_ble_eq_true rfl) (Nat.le_of_ble_eq_true rfl) ⟨Nat.le_of_ble_eq_true rfl, Nat.le_of_ble_eq_true rfl⟩ (Nat.le_of_ble_eq_true rfl) dX5_sentBy_98 (fun r_98 u H locs hp hI hz => ?_)
                    have hI : wI E AR sR H locs (mW E ad kp tr (va_up iv 30 (nI ((GL K n st).length))) (va_up ia 29 (wrL (ia 29) 0 (GL K n st))) K R mv) := hI
                    have hp : r_98 = sumS ((va_up ia 29 (wrL (ia 29) 0 (GL K n st))) 12) ((GL K n st).getD i 0) n := hp
                    have hr_98 := hp
                    subst hr_98
                    refine lv_aload_n hxR hbR dX5_sentBy_101 rfl (lv_at hl 0 rfl) ?_
                    refine lv_iload hxR hbR dX5_sentBy_102 (lv_at hl 5 rfl) ?_
                    refine kVI (n := 1) (As := [.int (nI b)]) (rest := [.int (sumS ((va_up ia 29 (wrL (ia 29) 0 (GL K n st))) 12) ((GL K n st).getD i 0) n)]) (fun w => w) hxR hbR hmlR hts hown hK hA hl.1 isCtx.id hI (c5_costOf l E ad kp tr (va_up iv 30 (nI ((GL K n st).length))) (va_up ia 29 (wrL (ia 29) 0 (GL K n st))) K R mv n b (up_n (by decide) hn) (by first | omega | with_reducible assumption) (by first | omega | with_reducible assumption)) (lw_V q1698 q1700 qs43 q86 q1701) ⟨rfl, by decide +kernel⟩ 16 5 rfl rfl mW_o rfl (Nat.le_of_ble_eq_true rfl) (Nat.le_of_ble_eq_true rfl) ⟨Nat.le_of_ble_eq_true rfl, Nat.le_of_ble_eq_true rfl⟩ (Nat.le_of_ble_eq_true rfl) dX5_sentBy_104 (fun r_104 u H locs hp hI hz => ?_)
                    have hI : wI E AR sR H locs (mW E ad kp tr (va_up iv 30 (nI ((GL K n st).length))) (va_up ia 29 (wrL (ia 29) 0 (GL K n st))) K R mv) := hI
                    have hp : r_104 = sumS ((va_up ia 29 (wrL (ia 29) 0 (GL K n st))) 12) b n := hp
                    have hr_104 := hp
                    subst hr_104
                    refine lv_icmp_le (tgt := 114) hxR hbR dX5_sentBy_107 (by decide) (fun c_107 => ?_) (fun c_107 => ?_)
                    · skip
                      refine lv_iconst (v := 0) hxR hbR dX5_sentBy_114 (by decide) ?_
                      refine lv_goto (tgt := 143) hxR hbR dX5_sentBy_115 (by decide) ?_
                      refine lv_istore (lv' := [(7, .int 0), (0, .ref (ad 45)), (1, .int (nI kd)), (2, .int (nI k9)), (3, .int (nI Y)), (4, .int (nI tc)), (5, .int (nI b)), (6, .int (nI i))]) hxR hbR dX5_sentBy_143 hl (by decide) rfl (fun ls hl => ?_)
                      refine lv_iload hxR hbR dX5_sentBy_145 (lv_at hl 6 rfl) ?_
                      refine lv_if_eq (tgt := 155) hxR hbR dX5_sentBy_147 (by decide) (fun c_147 => ?_) (fun c_147 => ?_)
                      · skip
                        have c_147 : b = 0 := (n_eq (a := b) (b := 0) (by omega) (by omega)).mp c_147
                        refine lv_aload_n hxR hbR dX5_sentBy_155 rfl (lv_at hl 1 rfl) ?_
                        refine r_get hxR hbR hts hown hK hI okX5 (ci := 5) rfl 16 mW_o 29 (by decide) q1507 rfl (v := .ref (ad 29)) rfl dX5_sentBy_156 ?_
                        refine lv_iload hxR hbR dX5_sentBy_159 (lv_at hl 7 rfl) ?_
                        refine r_iald hxR hbR hK hI 30 (n := 70) (J := i) (f := wrL (ia 29) 0 (GL K n st)) (v := nI ((GL K n st).getD i 0)) (mW_g29 va_up_s) (by omega) (by decide) (hL.at (by omega)) dX5_sentBy_161 ?_
                        refine lv_goto (tgt := 167) hxR hbR dX5_sentBy_162 (by decide) ?_
                        refine lv_istore (lv' := [(5, .int (nI ((GL K n st).getD i 0))), (7, .int 0), (0, .ref (ad 45)), (1, .int (nI kd)), (2, .int (nI k9)), (3, .int (nI Y)), (4, .int (nI tc)), (6, .int (nI i))]) hxR hbR dX5_sentBy_167 hl (by decide) rfl (fun ls hl => ?_)
                        refine lv_iinc (v := nI (i + 1)) (lv' := [(6, .int (nI (i + 1))), (5, .int (nI ((GL K n st).getD i 0))), (7, .int 0), (0, .ref (ad 45)), (1, .int (nI kd)), (2, .int (nI k9)), (3, .int (nI Y)), (4, .int (nI tc))]) hxR hbR dX5_sentBy_169 hl (k := 7) rfl (show nI i + 1 = nI (i + 1) from nI_add _ 1) (by decide) rfl (fun ls hl => ?_)
                        refine lv_goto (tgt := 62) hxR hbR dX5_sentBy_172 (by decide) ?_
                        exact ih_62 (i + 1) ((GL K n st).getD i 0) (by first | omega | with_reducible assumption) (by first | exact (chG_n (b := b) c_82) ▸ foldl_d c_68 hbb | exact (chG_0 c_82 c_147) ▸ foldl_d c_68 hbb | exact (chG_b c_82 (bt_1 c_87 c_107) (by decide)) ▸ foldl_d c_68 hbb | exact (chG_b c_82 (bt_3 c_87 c_135) (by decide)) ▸ foldl_d c_68 hbb | exact (chG_w c_147 (bt_2 c_87 c_107) rfl) ▸ foldl_d c_68 hbb | exact (chG_w c_147 (bt_4 c_87 c_135) rfl) ▸ foldl_d c_68 hbb) (by first | omega | with_reducible assumption) (by omega) _ _ hI _ (lv_sub hl [3, 4, 5, 6, 7, 1, 0] rfl)
                      · skip
                        have c_147 : ¬ b = 0 := fun zz => c_147 ((n_eq (a := b) (b := 0) (by omega) (by omega)).mpr zz)
                        refine lv_iload hxR hbR dX5_sentBy_150 (lv_at hl 0 rfl) ?_
                        refine lv_if_eq (tgt := 165) hxR hbR dX5_sentBy_152 (by decide) (fun _ => ?_) (fun c => absurd c (by decide))
                        refine lv_iload hxR hbR dX5_sentBy_165 (lv_at hl 6 rfl) ?_
                        refine lv_istore (lv' := [(5, .int (nI b)), (7, .int 0), (0, .ref (ad 45)), (1, .int (nI kd)), (2, .int (nI k9)), (3, .int (nI Y)), (4, .int (nI tc)), (6, .int (nI i))]) hxR hbR dX5_sentBy_167 hl (by decide) rfl (fun ls hl => ?_)
                        refine lv_iinc (v := nI (i + 1)) (lv' := [(6, .int (nI (i + 1))), (5, .int (nI b)), (7, .int 0), (0, .ref (ad 45)), (1, .int (nI kd)), (2, .int (nI k9)), (3, .int (nI Y)), (4, .int (nI tc))]) hxR hbR dX5_sentBy_169 hl (k := 7) rfl (show nI i + 1 = nI (i + 1) from nI_add _ 1) (by decide) rfl (fun ls hl => ?_)
                        refine lv_goto (tgt := 62) hxR hbR dX5_sentBy_172 (by decide) ?_
                        exact ih_62 (i + 1) b (by first | omega | with_reducible assumption) (by first | exact (chG_n (b := b) c_82) ▸ foldl_d c_68 hbb | exact (chG_0 c_82 c_147) ▸ foldl_d c_68 hbb | exact (chG_b c_82 (bt_1 c_87 c_107) (by decide)) ▸ foldl_d c_68 hbb | exact (chG_b c_82 (bt_3 c_87 c_135) (by decide)) ▸ foldl_d c_68 hbb | exact (chG_w c_147 (bt_2 c_87 c_107) rfl) ▸ foldl_d c_68 hbb | exact (chG_w c_147 (bt_4 c_87 c_135) rfl) ▸ foldl_d c_68 hbb) (by first | omega | with_reducible assumption) (by omega) _ _ hI _ (lv_sub hl [3, 4, 5, 6, 7, 1, 0] rfl)
                    · skip
                      refine lv_iconst (v := 1) hxR hbR dX5_sentBy_110 (by decide) ?_
                      refine lv_goto (tgt := 143) hxR hbR dX5_sentBy_111 (by decide) ?_
                      refine lv_istore (lv' := [(7, .int 1), (0, .ref (ad 45)), (1, .int (nI kd)), (2, .int (nI k9)), (3, .int (nI Y)), (4, .int (nI tc)), (5, .int (nI b)), (6, .int (nI i))]) hxR hbR dX5_sentBy_143 hl (by decide) rfl (fun ls hl => ?_)
                      refine lv_iload hxR hbR dX5_sentBy_145 (lv_at hl 6 rfl) ?_
                      refine lv_if_eq (tgt := 155) hxR hbR dX5_sentBy_147 (by decide) (fun c_147 => ?_) (fun c_147 => ?_)
                      · skip
                        have c_147 : b = 0 := (n_eq (a := b) (b := 0) (by omega) (by omega)).mp c_147
                        refine lv_aload_n hxR hbR dX5_sentBy_155 rfl (lv_at hl 1 rfl) ?_
                        refine r_get hxR hbR hts hown hK hI okX5 (ci := 5) rfl 16 mW_o 29 (by decide) q1507 rfl (v := .ref (ad 29)) rfl dX5_sentBy_156 ?_
                        refine lv_iload hxR hbR dX5_sentBy_159 (lv_at hl 7 rfl) ?_
                        refine r_iald hxR hbR hK hI 30 (n := 70) (J := i) (f := wrL (ia 29) 0 (GL K n st)) (v := nI ((GL K n st).getD i 0)) (mW_g29 va_up_s) (by omega) (by decide) (hL.at (by omega)) dX5_sentBy_161 ?_
                        refine lv_goto (tgt := 167) hxR hbR dX5_sentBy_162 (by decide) ?_
                        refine lv_istore (lv' := [(5, .int (nI ((GL K n st).getD i 0))), (7, .int 1), (0, .ref (ad 45)), (1, .int (nI kd)), (2, .int (nI k9)), (3, .int (nI Y)), (4, .int (nI tc)), (6, .int (nI i))]) hxR hbR dX5_sentBy_167 hl (by decide) rfl (fun ls hl => ?_)
                        refine lv_iinc (v := nI (i + 1)) (lv' := [(6, .int (nI (i + 1))), (5, .int (nI ((GL K n st).getD i 0))), (7, .int 1), (0, .ref (ad 45)), (1, .int (nI kd)), (2, .int (nI k9)), (3, .int (nI Y)), (4, .int (nI tc))]) hxR hbR dX5_sentBy_169 hl (k := 7) rfl (show nI i + 1 = nI (i + 1) from nI_add _ 1) (by decide) rfl (fun ls hl => ?_)
                        refine lv_goto (tgt := 62) hxR hbR dX5_sentBy_172 (by decide) ?_
                        exact ih_62 (i + 1) ((GL K n st).getD i 0) (by first | omega | with_reducible assumption) (by first | exact (chG_n (b := b) c_82) ▸ foldl_d c_68 hbb | exact (chG_0 c_82 c_147) ▸ foldl_d c_68 hbb | exact (chG_b c_82 (bt_1 c_87 c_107) (by decide)) ▸ foldl_d c_68 hbb | exact (chG_b c_82 (bt_3 c_87 c_135) (by decide)) ▸ foldl_d c_68 hbb | exact (chG_w c_147 (bt_2 c_87 c_107) rfl) ▸ foldl_d c_68 hbb | exact (chG_w c_147 (bt_4 c_87 c_135) rfl) ▸ foldl_d c_68 hbb) (by first | omega | with_reducible assumption) (by omega) _ _ hI _ (lv_sub hl [3, 4, 5, 6, 7, 1, 0] rfl)
                      · skip
                        have c_147 : ¬ b = 0 := fun zz => c_147 ((n_eq (a := b) (b := 0) (by omega) (by omega)).mpr zz)
                        refine lv_iload hxR hbR dX5_sentBy_150 (lv_at hl 0 rfl) ?_
                        refine lv_if_eq (tgt := 165) hxR hbR dX5_sentBy_152 (by decide) (fun c => absurd c (by decide)) (fun _ => ?_)
                        refine lv_aload_n hxR hbR dX5_sentBy_155 rfl (lv_at hl 1 rfl) ?_
                        refine r_get hxR hbR hts hown hK hI okX5 (ci := 5) rfl 16 mW_o 29 (by decide) q1507 rfl (v := .ref (ad 29)) rfl dX5_sentBy_156 ?_
                        refine lv_iload hxR hbR dX5_sentBy_159 (lv_at hl 7 rfl) ?_
                        refine r_iald hxR hbR hK hI 30 (n := 70) (J := i) (f := wrL (ia 29) 0 (GL K n st)) (v := nI ((GL K n st).getD i 0)) (mW_g29 va_up_s) (by omega) (by decide) (hL.at (by omega)) dX5_sentBy_161 ?_
                        refine lv_goto (tgt := 167) hxR hbR dX5_sentBy_162 (by decide) ?_
                        refine lv_istore (lv' := [(5, .int (nI ((GL K n st).getD i 0))), (7, .int 1), (0, .ref (ad 45)), (1, .int (nI kd)), (2, .int (nI k9)), (3, .int (nI Y)), (4, .int (nI tc)), (6, .int (nI i))]) hxR hbR dX5_sentBy_167 hl (by decide) rfl (fun ls hl => ?_)
                        refine lv_iinc (v := nI (i + 1)) (lv' := [(6, .int (nI (i + 1))), (5, .int (nI ((GL K n st).getD i 0))), (7, .int 1), (0, .ref (ad 45)), (1, .int (nI kd)), (2, .int (nI k9)), (3, .int (nI Y)), (4, .int (nI tc))]) hxR hbR dX5_sentBy_169 hl (k := 7) rfl (show nI i + 1 = nI (i + 1) from nI_add _ 1) (by decide) rfl (fun ls hl => ?_)
                        refine lv_goto (tgt := 62) hxR hbR dX5_sentBy_172 (by decide) ?_
                        exact ih_62 (i + 1) ((GL K n st).getD i 0) (by first | omega | with_reducible assumption) (by first | exact (chG_n (b := b) c_82) ▸ foldl_d c_68 hbb | exact (chG_0 c_82 c_147) ▸ foldl_d c_68 hbb | exact (chG_b c_82 (bt_1 c_87 c_107) (by decide)) ▸ foldl_d c_68 hbb | exact (chG_b c_82 (bt_3 c_87 c_135) (by decide)) ▸ foldl_d c_68 hbb | exact (chG_w c_147 (bt_2 c_87 c_107) rfl) ▸ foldl_d c_68 hbb | exact (chG_w c_147 (bt_4 c_87 c_135) rfl) ▸ foldl_d c_68 hbb) (by first | omega | with_reducible assumption) (by omega) _ _ hI _ (lv_sub hl [3, 4, 5, 6, 7, 1, 0] rfl)
          exact lp_62 _ 0 0 (by first | omega | with_reducible assumption) rfl (by first | omega | with_reducible assumption) (Nat.lt_succ_self _) _ _ hI _ (lv_sub hl [2, 3, 4, 5, 6, 1, 0] rfl)
        refine lv_iload_n hxR hbR dX5_sentBy_40 rfl (lv_at hl 1 rfl) ?_
        refine lv_iconst (v := 2) hxR hbR dX5_sentBy_41 (by decide) ?_
        refine lv_icmp_eq (tgt := 56) hxR hbR dX5_sentBy_42 (by decide) (fun c_42 => ?_) (fun c_42 => ?_)
        · skip
          have c_42 : kd = 2 := (n_eq (a := kd) (b := 2) (by omega) (by omega)).mp c_42
          exact cut_56  (by first | omega | with_reducible assumption) _ _ hI _ (lv_sub hl [0, 1, 2, 3, 4] rfl)
        · skip
          have c_42 : ¬ kd = 2 := fun zz => c_42 ((n_eq (a := kd) (b := 2) (by omega) (by omega)).mpr zz)
          refine lv_iload_n hxR hbR dX5_sentBy_45 rfl (lv_at hl 1 rfl) ?_
          refine lv_iconst (v := 4) hxR hbR dX5_sentBy_46 (by decide) ?_
          refine lv_icmp_eq (tgt := 56) hxR hbR dX5_sentBy_47 (by decide) (fun c_47 => ?_) (fun c_47 => ?_)
          · skip
            have c_47 : kd = 4 := (n_eq (a := kd) (b := 4) (by omega) (by omega)).mp c_47
            exact cut_56  (by first | omega | with_reducible assumption) _ _ hI _ (lv_sub hl [0, 1, 2, 3, 4] rfl)
          · skip
            have c_47 : ¬ kd = 4 := fun zz => c_47 ((n_eq (a := kd) (b := 4) (by omega) (by omega)).mpr zz)
            refine lv_aload_n hxR hbR dX5_sentBy_50 rfl (lv_at hl 0 rfl) ?_
            refine lv_iload_n hxR hbR dX5_sentBy_51 rfl (lv_at hl 3 rfl) ?_
            refine kVI (n := 1) (As := [.int (nI Y)]) (rest := []) (fun w => w) hxR hbR hmlR hts hown hK hA hl.1 isCtx.id hI (c5_bestIn l E ad kp tr (va_up iv 30 (nI ((GL K n st).length))) (va_up ia 29 (wrL (ia 29) 0 (GL K n st))) K R mv Y (GL K n st) va_up_s (isL.of va_up_s hL) (by first | omega | with_reducible assumption)) (lw_V q1690 q1692 qs41 q86 q1693) ⟨rfl, by decide +kernel⟩ 16 5 rfl rfl mW_o rfl (Nat.le_of_ble_eq_true rfl) (Nat.le_of_ble_eq_true rfl) ⟨Nat.le_of_ble_eq_true rfl, Nat.le_of_ble_eq_true rfl⟩ (Nat.le_of_ble_eq_true rfl) dX5_sentBy_52 (fun r_52 u H locs hp hI hz => ?_)
            have hI : wI E AR sR H locs (mW E ad kp tr (va_up iv 30 (nI ((GL K n st).length))) (va_up ia 29 (wrL (ia 29) 0 (GL K n st))) K R mv) := hI
            have hp : r_52 = nI (bestL (GL K n st) Y (GL K n st)) := hp
            have hr_52 := hp
            subst hr_52
            exact hret () (nI (bestL (GL K n st) Y (GL K n st))) _ _ _ _ _ _ dX5_sentBy_55 hI (by show (nI (bestL (GL K n st) Y (GL K n st))) = nI (sentV K (ia 12) n st kd k9 Y tc); rw [sentV, if_neg hne, if_neg (by omega), if_pos ⟨c_42, c_47⟩]) (Nat.le_of_ble_eq_true rfl) (Nat.le_of_ble_eq_true rfl) rfl
      · skip
        have c_31 : kd = 3 := (n_eq (a := kd) (b := 3) (by omega) (by omega)).mp c_31
        refine lv_aload_n hxR hbR dX5_sentBy_34 rfl (lv_at hl 0 rfl) ?_
        refine lv_iload_n hxR hbR dX5_sentBy_35 rfl (lv_at hl 3 rfl) ?_
        refine kVI (n := 1) (As := [.int (nI Y)]) (rest := []) (fun w => w) hxR hbR hmlR hts hown hK hA hl.1 isCtx.id hI (c5_firstIn l E ad kp tr (va_up iv 30 (nI ((GL K n st).length))) (va_up ia 29 (wrL (ia 29) 0 (GL K n st))) K R mv Y (GL K n st) va_up_s (isL.of va_up_s hL)) (lw_V q1686 q1688 qs40 q86 q1689) ⟨rfl, by decide +kernel⟩ 16 5 rfl rfl mW_o rfl (Nat.le_of_ble_eq_true rfl) (Nat.le_of_ble_eq_true rfl) ⟨Nat.le_of_ble_eq_true rfl, Nat.le_of_ble_eq_true rfl⟩ (Nat.le_of_ble_eq_true rfl) dX5_sentBy_36 (fun r_36 u H locs hp hI hz => ?_)
        have hI : wI E AR sR H locs (mW E ad kp tr (va_up iv 30 (nI ((GL K n st).length))) (va_up ia 29 (wrL (ia 29) 0 (GL K n st))) K R mv) := hI
        have hp : r_36 = nI (firstL Y (GL K n st)) := hp
        have hr_36 := hp
        subst hr_36
        exact hret () (nI (firstL Y (GL K n st))) _ _ _ _ _ _ dX5_sentBy_39 hI (by show (nI (firstL Y (GL K n st))) = nI (sentV K (ia 12) n st kd k9 Y tc); rw [sentV, if_neg hne, if_pos (by omega)]) (Nat.le_of_ble_eq_true rfl) (Nat.le_of_ble_eq_true rfl) rfl
  refine lv_iload_n hxR hbR dX5_sentBy_4 rfl (lv_at hl 1 rfl) ?_
  refine lv_iconst (v := 3) hxR hbR dX5_sentBy_5 (by decide) ?_
  refine lv_icmp_ne (tgt := 24) hxR hbR dX5_sentBy_6 (by decide) (fun c_6 => ?_) (fun c_6 => ?_)
  · skip
    have c_6 : ¬ kd = 3 := fun zz => c_6 ((n_eq (a := kd) (b := 3) (by omega) (by omega)).mpr zz)
    exact cut_24  (by first | omega | with_reducible assumption) _ _ hI _ (lv_sub hl [0, 1, 2, 3, 4] rfl)
  · skip
    have c_6 : kd = 3 := (n_eq (a := kd) (b := 3) (by omega) (by omega)).mp c_6
    refine lv_iload hxR hbR dX5_sentBy_9 (lv_at hl 4 rfl) ?_
    refine lv_if_le (tgt := 24) hxR hbR dX5_sentBy_11 (by decide) (fun c_11 => ?_) (fun c_11 => ?_)
    · skip
      have c_11 : tc ≤ 0 := (n_le (a := tc) (b := 0) (by omega) (by omega)).mp c_11
      exact cut_24  (by first | omega | with_reducible assumption) _ _ hI _ (lv_sub hl [0, 1, 2, 3, 4] rfl)
    · skip
      have c_11 : 0 < tc := Nat.lt_of_not_le (fun zz => c_11 ((n_le (a := tc) (b := 0) (by omega) (by omega)).mpr zz))
      refine lv_iload_n hxR hbR dX5_sentBy_14 rfl (lv_at hl 3 rfl) ?_
      refine kSI (n := 1) (As := [.int (nI Y)]) (rest := []) (fun w => w ++ (mW E ad kp tr (va_up iv 30 (nI ((GL K n st).length))) (va_up ia 29 (wrL (ia 29) 0 (GL K n st))) K R mv)) hxR hbR hmlR hts hown hK hA hl.1 (isCtx.suf _) hI (c5_bits l E  Y (by first | omega | with_reducible assumption)) (lw_S q1683 q1684 q86 q1685) (by decide +kernel) rfl (Nat.le_of_ble_eq_true rfl) (Nat.le_of_ble_eq_true rfl) ⟨Nat.le_of_ble_eq_true rfl, Nat.le_of_ble_eq_true rfl⟩ (Nat.le_of_ble_eq_true rfl) dX5_sentBy_15 (fun r_15 u H locs hp hI hz => ?_)
      have hI : wI E AR sR H locs (mW E ad kp tr (va_up iv 30 (nI ((GL K n st).length))) (va_up ia 29 (wrL (ia 29) 0 (GL K n st))) K R mv) := hI
      have hp : r_15 = nI (bitsN Y 8) := hp
      have hr_15 := hp
      subst hr_15
      have hbl := bitsN_le Y 8
      refine lv_iload_n hxR hbR dX5_sentBy_18 rfl (lv_at hl 2 rfl) ?_
      refine lv_icmp_ge (tgt := 24) hxR hbR dX5_sentBy_19 (by decide) (fun c_19 => ?_) (fun c_19 => ?_)
      · skip
        have c_19 : k9 ≤ (bitsN Y 8) := (n_le (a := k9) (b := (bitsN Y 8)) (by omega) (by omega)).mp c_19
        exact cut_24  (by first | omega | with_reducible assumption) _ _ hI _ (lv_sub hl [0, 1, 2, 3, 4] rfl)
      · skip
        have c_19 : (bitsN Y 8) < k9 := Nat.lt_of_not_le (fun zz => c_19 ((n_le (a := k9) (b := (bitsN Y 8)) (by omega) (by omega)).mpr zz))
        refine lv_iconst (v := 0) hxR hbR dX5_sentBy_22 (by decide) ?_
        exact hret () 0 _ _ _ _ _ _ dX5_sentBy_23 hI (by show 0 = nI (sentV K (ia 12) n st kd k9 Y tc); rw [sentV, if_pos ⟨c_6, c_11, c_19⟩]; rfl) (Nat.le_of_ble_eq_true rfl) (Nat.le_of_ble_eq_true rfl) rfl

theorem c5_waitedAll (l : Launch) (E : En) (ad : Nat → Nat) (kp tr : Option Nat) (iv : Nat → Int32) (ia K : Nat → Nat → Int32) (R : Nat → Nat → Int64) (mv : Nat → Int64) (n : Nat) (hn : iv 10 = nI n) (hn7 : n ≤ 7) : CtI l E yX5_waitedAll cX5_waitedAll 3 .int 0 0 0 [.ref (ad 45)] (mW E ad kp tr iv ia K R mv) (fun (r : Int32) (u : Unit) => r = sumA (ia 35) n) (fun (u : Unit) => mW E ad kp tr iv ia K R mv) := by
  refine CtI.of (by decide +kernel) (Nat.le_of_ble_eq_true rfl) ?_
  intro pR eR sR mR aR bR tR cR AR ls QR hxR hbR hmlR hts hown hlk hnm hA hK hI hl hret
  have hl : lv_has ls 3 [(0, .ref (ad 45))] := hl
  refine lv_iconst (v := 0) hxR hbR dX5_waitedAll_0 (by decide) ?_
  refine lv_istore_n (lv' := [(1, .int 0), (0, .ref (ad 45))]) hxR hbR dX5_waitedAll_1 rfl hl (by decide) rfl (fun ls hl => ?_)
  refine lv_iconst (v := 0) hxR hbR dX5_waitedAll_2 (by decide) ?_
  refine lv_istore_n (lv' := [(2, .int 0), (1, .int 0), (0, .ref (ad 45))]) hxR hbR dX5_waitedAll_3 rfl hl (by decide) rfl (fun ls hl => ?_)
  have lp_4 : ∀ (fu : Nat) (i : Nat) (a : Int32), (i ≤ n) → (a = sumA (ia 35) i) → n - i < fu → ∀ (H : Heap) (locs : List Loc), wI E AR sR H locs (mW E ad kp tr iv ia K R mv) → ∀ ls : Array Slot, lv_has ls 3 [(0, .ref (ad 45)), (1, .int a), (2, .int (nI i))] → W pR l eR (rmF 0 0 0) sR mR aR bR tR cR H locs 0 0 QR (F0 mR 4 ls []) := by
    intro fu
    induction fu with
    | zero =>
      intro i a hi ha hfu
      exact absurd hfu (Nat.not_lt_zero _)
    | succ fu ih_4 =>
      intro i a hi ha hfu H locs hI ls hl
      refine lv_iload_n hxR hbR dX5_waitedAll_4 rfl (lv_at hl 2 rfl) ?_
      refine lv_aload_n hxR hbR dX5_waitedAll_5 rfl (lv_at hl 0 rfl) ?_
      refine r_get hxR hbR hts hown hK hI okX5 (ci := 5) rfl 16 mW_o 10 (by decide) q1488 rfl (v := .int (nI n)) (al hn) dX5_waitedAll_6 ?_
      refine lv_icmp_ge (tgt := 27) hxR hbR dX5_waitedAll_9 (by decide) (fun c_9 => ?_) (fun c_9 => ?_)
      · skip
        have c_9 : n ≤ i := (n_le (a := n) (b := i) (by omega) (by omega)).mp c_9
        refine lv_iload_n hxR hbR dX5_waitedAll_27 rfl (lv_at hl 1 rfl) ?_
        exact hret () a _ _ _ _ _ _ dX5_waitedAll_28 hI (by show a = sumA (ia 35) n; rw [ha, show i = n by omega]) (Nat.le_of_ble_eq_true rfl) (Nat.le_of_ble_eq_true rfl) rfl
      · skip
        have c_9 : i < n := Nat.lt_of_not_le (fun zz => c_9 ((n_le (a := n) (b := i) (by omega) (by omega)).mpr zz))
        refine lv_iload_n hxR hbR dX5_waitedAll_12 rfl (lv_at hl 1 rfl) ?_
        refine lv_aload_n hxR hbR dX5_waitedAll_13 rfl (lv_at hl 0 rfl) ?_
        refine r_get hxR hbR hts hown hK hI okX5 (ci := 5) rfl 16 mW_o 35 (by decide) q1513 rfl (v := .ref (ad 35)) rfl dX5_waitedAll_14 ?_
        refine lv_iload_n hxR hbR dX5_waitedAll_17 rfl (lv_at hl 2 rfl) ?_
        refine r_iald hxR hbR hK hI 33 (n := 7) (J := i) (f := ia 35) (v := (ia 35) i) (mW_g35 rfl) (by omega) (by decide) rfl dX5_waitedAll_18 ?_
        refine lv_iadd hxR hbR dX5_waitedAll_19 ?_
        refine lv_istore_n (lv' := [(1, .int (a + ((ia 35) i))), (0, .ref (ad 45)), (2, .int (nI i))]) hxR hbR dX5_waitedAll_20 rfl hl (by decide) rfl (fun ls hl => ?_)
        refine lv_iinc (v := nI (i + 1)) (lv' := [(2, .int (nI (i + 1))), (1, .int (a + ((ia 35) i))), (0, .ref (ad 45))]) hxR hbR dX5_waitedAll_21 hl (k := 2) rfl (show nI i + 1 = nI (i + 1) from nI_add _ 1) (by decide) rfl (fun ls hl => ?_)
        refine lv_goto (tgt := 4) hxR hbR dX5_waitedAll_24 (by decide) ?_
        exact ih_4 (i + 1) (a + ((ia 35) i)) (by first | omega | with_reducible assumption) (by rw [ha]; rfl) (by omega) _ _ hI _ (lv_sub hl [2, 1, 0] rfl)
  exact lp_4 _ 0 0 (by first | omega | with_reducible assumption) rfl (Nat.lt_succ_self _) _ _ hI _ (lv_sub hl [2, 1, 0] rfl)

theorem c5_findComing (l : Launch) (E : En) (ad : Nat → Nat) (kp tr : Option Nat) (iv : Nat → Int32) (ia K : Nat → Nat → Int32) (R : Nat → Nat → Int64) (mv : Nat → Int64) (n : Nat) (hn : iv 10 = nI n) (hn7 : n ≤ 7) : CtV l E yX5_findComing cX5_findComing 4 0 0 0 [.ref (ad 45)] (mW E ad kp tr iv ia K R mv) (fun (u : Unit) => True) (fun (u : Unit) => mW E ad kp tr iv (va_up ia 31 (wrL (ia 31) 0 (comL (ia 11) n))) K R mv) := by
  refine CtV.of (by decide +kernel) (Nat.le_of_ble_eq_true rfl) ?_
  intro pR eR sR mR aR bR tR cR AR ls QR hxR hbR hmlR hts hown hlk hnm hA hK hI hl hret
  have hl : lv_has ls 4 [(0, .ref (ad 45))] := hl
  refine lv_iconst (v := 0) hxR hbR dX5_findComing_0 (by decide) ?_
  refine lv_istore_n (lv' := [(1, .int 0), (0, .ref (ad 45))]) hxR hbR dX5_findComing_1 rfl hl (by decide) rfl (fun ls hl => ?_)
  refine lv_iconst (v := 0) hxR hbR dX5_findComing_2 (by decide) ?_
  refine lv_istore_n (lv' := [(2, .int 0), (1, .int 0), (0, .ref (ad 45))]) hxR hbR dX5_findComing_3 rfl hl (by decide) rfl (fun ls hl => ?_)
  have hI := wI_w (ws' := mW E ad kp tr iv (va_up ia 31 (ia 31)) K R mv) (by rw [va_up_id (f := ia) (k := 31) (v := ia 31) rfl]) hI
  have lp_4 : ∀ (fu : Nat) (h : Nat) (k : Nat) (g : Nat → Int32), (h ≤ 24) → (k = (comH (ia 11) n h).length) → (g = wrL (ia 31) 0 (comH (ia 11) n h)) → 24 - h < fu → ∀ (H : Heap) (locs : List Loc), wI E AR sR H locs (mW E ad kp tr iv (va_up ia 31 g) K R mv) → ∀ ls : Array Slot, lv_has ls 4 [(0, .ref (ad 45)), (1, .int (nI k)), (2, .int (nI h))] → W pR l eR (rmF 0 0 0) sR mR aR bR tR cR H locs 0 0 QR (F0 mR 4 ls []) := by
    intro fu
    induction fu with
    | zero =>
      intro h k g hh hk hg hfu
      exact absurd hfu (Nat.not_lt_zero _)
    | succ fu ih_4 =>
      intro h k g hh hk hg hfu H locs hI ls hl
      refine lv_iload_n hxR hbR dX5_findComing_4 rfl (lv_at hl 2 rfl) ?_
      refine lv_bipush (v := 24) hxR hbR dX5_findComing_5 (by decide) ?_
      refine lv_icmp_ge (tgt := 52) hxR hbR dX5_findComing_7 (by decide) (fun c_7 => ?_) (fun c_7 => ?_)
      · skip
        have c_7 : 24 ≤ h := (n_le (a := 24) (b := h) (by omega) (by omega)).mp c_7
        have hI : wI E AR sR H locs (mW E ad kp tr iv (va_up ia 31 (wrL (ia 31) 0 (comL (ia 11) n))) K R mv) := by rw [show h = 24 by omega] at hg; rw [comL, ← hg]; exact hI
        exact hret () _ _ _ _ _ _ dX5_findComing_52 hI (by show True; trivial) (Nat.le_of_ble_eq_true rfl) (Nat.le_of_ble_eq_true rfl)
      · skip
        have c_7 : h < 24 := Nat.lt_of_not_le (fun zz => c_7 ((n_le (a := 24) (b := h) (by omega) (by omega)).mpr zz))
        refine lv_iconst (v := 0) hxR hbR dX5_findComing_10 (by decide) ?_
        refine lv_istore_n (lv' := [(3, .int 0), (0, .ref (ad 45)), (1, .int (nI k)), (2, .int (nI h))]) hxR hbR dX5_findComing_11 rfl hl (by decide) rfl (fun ls hl => ?_)
        have lp_12 : ∀ (fu : Nat) (i : Nat) (k2 : Nat) (g2 : Nat → Int32), (i ≤ n) → (k2 = (comH (ia 11) n h ++ comP (ia 11) h i).length) → (g2 = wrL (ia 31) 0 (comH (ia 11) n h ++ comP (ia 11) h i)) → n - i < fu → ∀ (H : Heap) (locs : List Loc), wI E AR sR H locs (mW E ad kp tr iv (va_up ia 31 g2) K R mv) → ∀ ls : Array Slot, lv_has ls 4 [(0, .ref (ad 45)), (1, .int (nI k2)), (2, .int (nI h)), (3, .int (nI i))] → W pR l eR (rmF 0 0 0) sR mR aR bR tR cR H locs 0 0 QR (F0 mR 12 ls []) := by
          intro fu
          induction fu with
          | zero =>
            intro i k2 g2 hi hk2 hg2 hfu
            exact absurd hfu (Nat.not_lt_zero _)
          | succ fu ih_12 =>
            intro i k2 g2 hi hk2 hg2 hfu H locs hI ls hl
            refine lv_iload_n hxR hbR dX5_findComing_12 rfl (lv_at hl 3 rfl) ?_
            refine lv_aload_n hxR hbR dX5_findComing_13 rfl (lv_at hl 0 rfl) ?_
            refine r_get hxR hbR hts hown hK hI okX5 (ci := 5) rfl 16 mW_o 10 (by decide) q1488 rfl (v := .int (nI n)) (al hn) dX5_findComing_14 ?_
            refine lv_icmp_ge (tgt := 46) hxR hbR dX5_findComing_17 (by decide) (fun c_17 => ?_) (fun c_17 => ?_)
            · skip
              have c_17 : n ≤ i := (n_le (a := n) (b := i) (by omega) (by omega)).mp c_17
              refine lv_iinc (v := nI (h + 1)) (lv' := [(2, .int (nI (h + 1))), (0, .ref (ad 45)), (1, .int (nI k2)), (3, .int (nI i))]) hxR hbR dX5_findComing_46 hl (k := 2) rfl (show nI h + 1 = nI (h + 1) from nI_add _ 1) (by decide) rfl (fun ls hl => ?_)
              refine lv_goto (tgt := 4) hxR hbR dX5_findComing_49 (by decide) ?_
              exact ih_4 (h + 1) k2 g2 (by first | omega | with_reducible assumption) (by rw [hk2, show i = n by omega]; rfl) (by rw [hg2, show i = n by omega]; rfl) (by omega) _ _ hI _ (lv_sub hl [1, 2, 0] rfl)
            · skip
              have c_17 : i < n := Nat.lt_of_not_le (fun zz => c_17 ((n_le (a := n) (b := i) (by omega) (by omega)).mpr zz))
              refine lv_aload_n hxR hbR dX5_findComing_20 rfl (lv_at hl 0 rfl) ?_
              refine r_get hxR hbR hts hown hK hI okX5 (ci := 5) rfl 16 mW_o 11 (by decide) q1489 rfl (v := .ref (ad 11)) rfl dX5_findComing_21 ?_
              refine lv_iload_n hxR hbR dX5_findComing_24 rfl (lv_at hl 3 rfl) ?_
              refine r_iald hxR hbR hK hI 26 (n := 8) (J := i) (f := ia 11) (v := (ia 11) i) (mW_g11 (up_n (by decide) rfl)) (by omega) (by decide) rfl dX5_findComing_25 ?_
              refine lv_iload_n hxR hbR dX5_findComing_26 rfl (lv_at hl 2 rfl) ?_
              refine lv_icmp_ne (tgt := 40) hxR hbR dX5_findComing_27 (by decide) (fun c_27 => ?_) (fun c_27 => ?_)
              · skip
                refine lv_iinc (v := nI (i + 1)) (lv' := [(3, .int (nI (i + 1))), (0, .ref (ad 45)), (1, .int (nI k2)), (2, .int (nI h))]) hxR hbR dX5_findComing_40 hl (k := 3) rfl (show nI i + 1 = nI (i + 1) from nI_add _ 1) (by decide) rfl (fun ls hl => ?_)
                refine lv_goto (tgt := 12) hxR hbR dX5_findComing_43 (by decide) ?_
                exact ih_12 (i + 1) k2 g2 (by first | omega | with_reducible assumption) (by first | (rw [com_n c_27]; exact hk2) | (rw [com_y c_27, List.length_append, ← hk2]; rfl)) (by first | (rw [com_n c_27]; exact hg2) | (rw [com_y c_27, ← wrL_push, ← hk2, ← hg2])) (by omega) _ _ hI _ (lv_sub hl [1, 2, 3, 0] rfl)
              · skip
                have hcl := com_lt (hour := ia 11) (n := n) (h := h) (p := i) c_17 (by omega) c_27
                refine lv_aload_n hxR hbR dX5_findComing_30 rfl (lv_at hl 0 rfl) ?_
                refine r_get hxR hbR hts hown hK hI okX5 (ci := 5) rfl 16 mW_o 31 (by decide) q1509 rfl (v := .ref (ad 31)) rfl dX5_findComing_31 ?_
                refine lv_iload_n hxR hbR dX5_findComing_34 rfl (lv_at hl 1 rfl) ?_
                refine lv_iinc (v := nI (k2 + 1)) (lv' := [(1, .int (nI (k2 + 1))), (0, .ref (ad 45)), (2, .int (nI h)), (3, .int (nI i))]) hxR hbR dX5_findComing_35 hl (k := 1) rfl (show nI k2 + 1 = nI (k2 + 1) from nI_add _ 1) (by decide) rfl (fun ls hl => ?_)
                refine lv_iload_n hxR hbR dX5_findComing_38 rfl (lv_at hl 3 rfl) ?_
                refine r_iast (ws1 := mW E ad kp tr iv (va_up ia 31 (va_up g2 k2 (nI i))) K R mv) hxR hbR hK hI 31 (n := 7) (J := k2) (f := g2) (mW_g31 va_up_s) (by omega) (by decide) (Eq.trans mW_a31 (mW_c2 up_0)) dX5_findComing_39 (fun H locs hI => ?_)
                refine lv_iinc (v := nI (i + 1)) (lv' := [(3, .int (nI (i + 1))), (1, .int (nI (k2 + 1))), (0, .ref (ad 45)), (2, .int (nI h))]) hxR hbR dX5_findComing_40 hl (k := 3) rfl (show nI i + 1 = nI (i + 1) from nI_add _ 1) (by decide) rfl (fun ls hl => ?_)
                refine lv_goto (tgt := 12) hxR hbR dX5_findComing_43 (by decide) ?_
                exact ih_12 (i + 1) (k2 + 1) (va_up g2 k2 (nI i)) (by first | omega | with_reducible assumption) (by first | (rw [com_n c_27]; exact hk2) | (rw [com_y c_27, List.length_append, ← hk2]; rfl)) (by first | (rw [com_n c_27]; exact hg2) | (rw [com_y c_27, ← wrL_push, ← hk2, ← hg2])) (by omega) _ _ hI _ (lv_sub hl [2, 1, 3, 0] rfl)
        exact lp_12 _ 0 k g (by first | omega | with_reducible assumption) (by rw [hk, comP, List.append_nil]) (by rw [hg, comP, List.append_nil]) (Nat.lt_succ_self _) _ _ hI _ (lv_sub hl [1, 2, 3, 0] rfl)
  exact lp_4 _ 0 0 (ia 31) (by first | omega | with_reducible assumption) rfl (wrL_nil _ _).symm (Nat.lt_succ_self _) _ _ hI _ (lv_sub hl [2, 1, 0] rfl)
