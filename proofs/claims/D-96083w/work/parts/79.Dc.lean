def statX (ivn : Nat → Int32) (sz : Int32) (hd : Nat → Option Nat) (rf : Nat → Int32) (K : Nat → Nat → Int32) (n : Nat) (w : Int32) : Int32 :=
  if w = 0 then ivn 3 else if w = 1 then ivn 4 else if w = 2 then ivn 5 else if w = 3 then nI (stN K n n / 2) else if w = 4 then ivn 6 else if w = 5 then ivn 7 else if w = 6 then ivn 8
  else if w = 7 then sz else if w = 8 then ivn 9 else if w = 9 then nI (heldN hd 8) else if 12 ≤ w.toInt ∧ w.toInt ≤ 16 then rf (w.toNatClampNeg - 10) else -1
theorem statX_r {ivn : Nat → Int32} {sz : Int32} {hd : Nat → Option Nat} {rf : Nat → Int32} {K : Nat → Nat → Int32} {n w : Nat} (h : 12 ≤ w ∧ w ≤ 16) : statX ivn sz hd rf K n (nI w) = rf (w - 10) := by
  have e : ∀ k, k < 10 → ¬ nI w = nI k := fun k hk z => by have := n_eq (a := w) (b := k) (by omega) (by omega) |>.mp z; omega
  unfold statX
  rw [if_neg (show ¬ nI w = 0 from e 0 (by decide)), if_neg (show ¬ nI w = 1 from e 1 (by decide)), if_neg (show ¬ nI w = 2 from e 2 (by decide)), if_neg (show ¬ nI w = 3 from e 3 (by decide)), if_neg (show ¬ nI w = 4 from e 4 (by decide)), if_neg (show ¬ nI w = 5 from e 5 (by decide)), if_neg (show ¬ nI w = 6 from e 6 (by decide)), if_neg (show ¬ nI w = 7 from e 7 (by decide)), if_neg (show ¬ nI w = 8 from e 8 (by decide)), if_neg (show ¬ nI w = 9 from e 9 (by decide)), if_pos (by rw [nI_toInt (by omega)]; omega), nI_clamp (by omega)]

theorem c0_status (l : Launch) (E : En) (ad : Nat → Nat) (iv : Nat → Int32) (ch : Nat → Int32) (rd : Nat → Int32) (tp : Nat → Int32) (rf : Nat → Int32) (hd : Nat → Option Nat) (tr : Nat) (gr : Nat) (dy : Nat) (im : Option Nat) (adn : Nat → Nat) (ivn : Nat → Int32) (hrn : Nat → Int32) (csn : Nat → Int32) (K : Nat → Nat → Int32) (n : Nat) (x : Int32) (hn : ivn 3 = nI n) (hn7 : n ≤ 7) : CtI l E yX0_status cX0_status 2 .int 4 0 0 [.ref (ad 11), .int x] (xW E ad iv ch rd tp rf hd (adn 10) tr gr dy im ++ (tW E adn ivn hrn csn (sK K))) (fun (r : Int32) (u : Unit) => r = statX ivn (iv 9) hd rf K n x) (fun (u : Unit) => xW E ad iv ch rd tp rf hd (adn 10) tr gr dy im ++ (tW E adn ivn hrn csn (sK K))) := by
  refine CtI.of (by decide +kernel) (Nat.le_of_ble_eq_true rfl) ?_
  intro pR eR sR mR aR bR tR cR AR ls QR hxR hbR hmlR hts hown hlk hnm hA hK hI hl hret
  have hl : lv_has ls 2 [(0, .ref (ad 11)), (1, .int x)] := hl
  refine lv_iload_n hxR hbR dX0_status_0 rfl (lv_at hl 1 rfl) ?_
  refine lv_bipush (v := 12) hxR hbR dX0_status_1 (by decide) ?_
  refine lv_bipush (v := 16) hxR hbR dX0_status_3 (by decide) ?_
  refine kSI (n := 3) (As := [.int x, .int 12, .int 16]) (rest := []) (fun w => w ++ (xW E ad iv ch rd tp rf hd (adn 10) tr gr dy im ++ (tW E adn ivn hrn csn (sK K)))) hxR hbR hmlR hts hown hK hA hl.1 (isCtx.suf _) hI (c0_isIn l E  x 12 16 ) (lw_S q393 q394 q81 q395) (by decide +kernel) rfl (Nat.le_of_ble_eq_true rfl) (Nat.le_of_ble_eq_true rfl) ⟨Nat.le_of_ble_eq_true rfl, Nat.le_of_ble_eq_true rfl⟩ (Nat.le_of_ble_eq_true rfl) dX0_status_5 (fun r_5 u H locs hp hI hz => ?_)
  have hI : wI E AR sR H locs (xW E ad iv ch rd tp rf hd (adn 10) tr gr dy im ++ (tW E adn ivn hrn csn (sK K))) := hI
  have hp : r_5 = b2i (decide (Int32.toInt 12 ≤ Int32.toInt x ∧ Int32.toInt x ≤ Int32.toInt 16)) := hp
  have hr_5 := hp
  rcases b2i_cases hr_5 with ⟨c_5, rfl⟩ | ⟨c_5, rfl⟩
  · skip
    have c_5 : Int32.toInt 12 ≤ Int32.toInt x ∧ Int32.toInt x ≤ Int32.toInt 16 := of_decide_eq_true c_5
    have c_5 : 12 ≤ x.toInt ∧ x.toInt ≤ 16 := by exact c_5
    obtain ⟨w, hw, rfl⟩ := nat_of_le (k := 16) ⟨by omega, c_5.2⟩ (by decide)
    have tw : (nI w).toInt = (w : Int) := nI_toInt (by omega)
    refine lv_if_eq (tgt := 21) hxR hbR dX0_status_8 (by decide) (fun c => absurd c (by decide)) (fun _ => ?_)
    refine lv_aload_n hxR hbR dX0_status_11 rfl (lv_at hl 0 rfl) ?_
    refine r_get hxR hbR hts hown hK hI okX0 (ci := 0) rfl 8 (he_l xW_o) 10 (by decide) q274 rfl (v := .ref (ad 10)) rfl dX0_status_12 ?_
    refine lv_iload_n hxR hbR dX0_status_15 rfl (lv_at hl 1 rfl) ?_
    refine lv_bipush (v := 10) hxR hbR dX0_status_16 (by decide) ?_
    refine lv_isub hxR hbR dX0_status_18 ?_
    refine lv_as (y := nI (w - 10)) (pk_sub (a := w) (b := 10) (by omega)) ?_
    refine r_iald hxR hbR hK hI 13 (n := 7) (J := w - 10) (f := rf) (v := rf (w - 10)) (he_l (xW_g10 rfl)) (by omega) (by decide) rfl dX0_status_19 ?_
    exact hret () (rf (w - 10)) _ _ _ _ _ _ dX0_status_20 hI (by show (rf (w - 10)) = statX ivn (iv 9) hd rf K n (nI w); exact (statX_r (by omega)).symm) (Nat.le_of_ble_eq_true rfl) (Nat.le_of_ble_eq_true rfl) rfl
  · skip
    have c_5 : ¬ (Int32.toInt 12 ≤ Int32.toInt x ∧ Int32.toInt x ≤ Int32.toInt 16) := of_decide_eq_false c_5
    have c_5 : ¬ (12 ≤ x.toInt ∧ x.toInt ≤ 16) := by exact c_5
    refine lv_if_eq (tgt := 21) hxR hbR dX0_status_8 (by decide) (fun _ => ?_) (fun c => absurd c (by decide))
    refine lv_iload_n hxR hbR dX0_status_21 rfl (lv_at hl 1 rfl) ?_
    by_cases c_22_0 : x = 0
    · skip
      refine lv_tableIn (off := 54) (tgt := 76) hxR hbR dX0_status_22 (by rw [c_22_0]; decide) (by rw [c_22_0]; decide) (by rw [c_22_0]; rfl) (by decide) ?_
      refine lv_aload_n hxR hbR dX0_status_76 rfl (lv_at hl 0 rfl) ?_
      refine r_get hxR hbR hts hown hK hI okX0 (ci := 0) rfl 8 (he_l xW_o) 0 (by decide) q263 rfl (v := .ref (adn 10)) rfl dX0_status_77 ?_
      refine r_get hxR hbR hts hown hK hI okX1 (ci := 1) rfl (14 + 0) (he_r (Nat.le_of_ble_eq_true rfl) (Nat.le_of_ble_eq_true rfl) tW_o) 3 (by decide) q144 rfl (v := .int (nI n)) (al hn) dX0_status_80 ?_
      exact hret () (nI n) _ _ _ _ _ _ dX0_status_83 hI (by show (nI n) = statX ivn (iv 9) hd rf K n x; rw [c_22_0]; exact hn.symm) (Nat.le_of_ble_eq_true rfl) (Nat.le_of_ble_eq_true rfl) rfl
    by_cases c_22_1 : x = 1
    · skip
      refine lv_tableIn (off := 62) (tgt := 84) hxR hbR dX0_status_22 (by rw [c_22_1]; decide) (by rw [c_22_1]; decide) (by rw [c_22_1]; rfl) (by decide) ?_
      refine lv_aload_n hxR hbR dX0_status_84 rfl (lv_at hl 0 rfl) ?_
      refine r_get hxR hbR hts hown hK hI okX0 (ci := 0) rfl 8 (he_l xW_o) 0 (by decide) q263 rfl (v := .ref (adn 10)) rfl dX0_status_85 ?_
      refine r_get hxR hbR hts hown hK hI okX1 (ci := 1) rfl (14 + 0) (he_r (Nat.le_of_ble_eq_true rfl) (Nat.le_of_ble_eq_true rfl) tW_o) 4 (by decide) q148 rfl (v := .int (ivn 4)) (al rfl) dX0_status_88 ?_
      exact hret () (ivn 4) _ _ _ _ _ _ dX0_status_91 hI (by show (ivn 4) = statX ivn (iv 9) hd rf K n x; rw [c_22_1]; rfl) (Nat.le_of_ble_eq_true rfl) (Nat.le_of_ble_eq_true rfl) rfl
    by_cases c_22_2 : x = 2
    · skip
      refine lv_tableIn (off := 70) (tgt := 92) hxR hbR dX0_status_22 (by rw [c_22_2]; decide) (by rw [c_22_2]; decide) (by rw [c_22_2]; rfl) (by decide) ?_
      refine lv_aload_n hxR hbR dX0_status_92 rfl (lv_at hl 0 rfl) ?_
      refine r_get hxR hbR hts hown hK hI okX0 (ci := 0) rfl 8 (he_l xW_o) 0 (by decide) q263 rfl (v := .ref (adn 10)) rfl dX0_status_93 ?_
      refine r_get hxR hbR hts hown hK hI okX1 (ci := 1) rfl (14 + 0) (he_r (Nat.le_of_ble_eq_true rfl) (Nat.le_of_ble_eq_true rfl) tW_o) 5 (by decide) q151 rfl (v := .int (ivn 5)) (al rfl) dX0_status_96 ?_
      exact hret () (ivn 5) _ _ _ _ _ _ dX0_status_99 hI (by show (ivn 5) = statX ivn (iv 9) hd rf K n x; rw [c_22_2]; rfl) (Nat.le_of_ble_eq_true rfl) (Nat.le_of_ble_eq_true rfl) rfl
    by_cases c_22_3 : x = 3
    · skip
      refine lv_tableIn (off := 78) (tgt := 100) hxR hbR dX0_status_22 (by rw [c_22_3]; decide) (by rw [c_22_3]; decide) (by rw [c_22_3]; rfl) (by decide) ?_
      refine lv_aload_n hxR hbR dX0_status_100 rfl (lv_at hl 0 rfl) ?_
      refine r_get hxR hbR hts hown hK hI okX0 (ci := 0) rfl 8 (he_l xW_o) 0 (by decide) q263 rfl (v := .ref (adn 10)) rfl dX0_status_101 ?_
      refine kVI (n := 0) (As := []) (rest := []) (fun w => (xW E ad iv ch rd tp rf hd (adn 10) tr gr dy im) ++ w) hxR hbR hmlR hts hown hK hA hl.1 (isCtx.pre _) hI (c1_strange l E adn ivn hrn csn K n hn (by first | omega | with_reducible assumption)) (lw_V q1458 q1459 q1460 q82 q1461) ⟨rfl, by decide +kernel⟩ 0 1 rfl rfl tW_o rfl (Nat.le_of_ble_eq_true rfl) (Nat.le_of_ble_eq_true rfl) ⟨Nat.le_of_ble_eq_true rfl, Nat.le_of_ble_eq_true rfl⟩ (Nat.le_of_ble_eq_true rfl) dX0_status_104 (fun r_104 u H locs hp hI hz => ?_)
      have hI : wI E AR sR H locs (xW E ad iv ch rd tp rf hd (adn 10) tr gr dy im ++ (tW E adn ivn hrn csn (sK K))) := hI
      have hp : r_104 = nI (stN K n n / 2) := hp
      have hr_104 := hp
      subst hr_104
      exact hret () (nI (stN K n n / 2)) _ _ _ _ _ _ dX0_status_107 hI (by show (nI (stN K n n / 2)) = statX ivn (iv 9) hd rf K n x; rw [c_22_3]; rfl) (Nat.le_of_ble_eq_true rfl) (Nat.le_of_ble_eq_true rfl) rfl
    by_cases c_22_4 : x = 4
    · skip
      refine lv_tableIn (off := 86) (tgt := 108) hxR hbR dX0_status_22 (by rw [c_22_4]; decide) (by rw [c_22_4]; decide) (by rw [c_22_4]; rfl) (by decide) ?_
      refine lv_aload_n hxR hbR dX0_status_108 rfl (lv_at hl 0 rfl) ?_
      refine r_get hxR hbR hts hown hK hI okX0 (ci := 0) rfl 8 (he_l xW_o) 0 (by decide) q263 rfl (v := .ref (adn 10)) rfl dX0_status_109 ?_
      refine r_get hxR hbR hts hown hK hI okX1 (ci := 1) rfl (14 + 0) (he_r (Nat.le_of_ble_eq_true rfl) (Nat.le_of_ble_eq_true rfl) tW_o) 6 (by decide) q153 rfl (v := .int (ivn 6)) (al rfl) dX0_status_112 ?_
      exact hret () (ivn 6) _ _ _ _ _ _ dX0_status_115 hI (by show (ivn 6) = statX ivn (iv 9) hd rf K n x; rw [c_22_4]; rfl) (Nat.le_of_ble_eq_true rfl) (Nat.le_of_ble_eq_true rfl) rfl
    by_cases c_22_5 : x = 5
    · skip
      refine lv_tableIn (off := 94) (tgt := 116) hxR hbR dX0_status_22 (by rw [c_22_5]; decide) (by rw [c_22_5]; decide) (by rw [c_22_5]; rfl) (by decide) ?_
      refine lv_aload_n hxR hbR dX0_status_116 rfl (lv_at hl 0 rfl) ?_
      refine r_get hxR hbR hts hown hK hI okX0 (ci := 0) rfl 8 (he_l xW_o) 0 (by decide) q263 rfl (v := .ref (adn 10)) rfl dX0_status_117 ?_
      refine r_get hxR hbR hts hown hK hI okX1 (ci := 1) rfl (14 + 0) (he_r (Nat.le_of_ble_eq_true rfl) (Nat.le_of_ble_eq_true rfl) tW_o) 7 (by decide) q155 rfl (v := .int (ivn 7)) (al rfl) dX0_status_120 ?_
      exact hret () (ivn 7) _ _ _ _ _ _ dX0_status_123 hI (by show (ivn 7) = statX ivn (iv 9) hd rf K n x; rw [c_22_5]; rfl) (Nat.le_of_ble_eq_true rfl) (Nat.le_of_ble_eq_true rfl) rfl
    by_cases c_22_6 : x = 6
    · skip
      refine lv_tableIn (off := 102) (tgt := 124) hxR hbR dX0_status_22 (by rw [c_22_6]; decide) (by rw [c_22_6]; decide) (by rw [c_22_6]; rfl) (by decide) ?_
      refine lv_aload_n hxR hbR dX0_status_124 rfl (lv_at hl 0 rfl) ?_
      refine r_get hxR hbR hts hown hK hI okX0 (ci := 0) rfl 8 (he_l xW_o) 0 (by decide) q263 rfl (v := .ref (adn 10)) rfl dX0_status_125 ?_
      refine r_get hxR hbR hts hown hK hI okX1 (ci := 1) rfl (14 + 0) (he_r (Nat.le_of_ble_eq_true rfl) (Nat.le_of_ble_eq_true rfl) tW_o) 8 (by decide) q157 rfl (v := .int (ivn 8)) (al rfl) dX0_status_128 ?_
      exact hret () (ivn 8) _ _ _ _ _ _ dX0_status_131 hI (by show (ivn 8) = statX ivn (iv 9) hd rf K n x; rw [c_22_6]; rfl) (Nat.le_of_ble_eq_true rfl) (Nat.le_of_ble_eq_true rfl) rfl
    by_cases c_22_7 : x = 7
    · skip
      refine lv_tableIn (off := 110) (tgt := 132) hxR hbR dX0_status_22 (by rw [c_22_7]; decide) (by rw [c_22_7]; decide) (by rw [c_22_7]; rfl) (by decide) ?_
      refine lv_aload_n hxR hbR dX0_status_132 rfl (lv_at hl 0 rfl) ?_
      refine r_get hxR hbR hts hown hK hI okX0 (ci := 0) rfl 8 (he_l xW_o) 9 (by decide) q273 rfl (v := .int (iv 9)) (al rfl) dX0_status_133 ?_
      exact hret () (iv 9) _ _ _ _ _ _ dX0_status_136 hI (by show (iv 9) = statX ivn (iv 9) hd rf K n x; rw [c_22_7]; rfl) (Nat.le_of_ble_eq_true rfl) (Nat.le_of_ble_eq_true rfl) rfl
    by_cases c_22_8 : x = 8
    · skip
      refine lv_tableIn (off := 115) (tgt := 137) hxR hbR dX0_status_22 (by rw [c_22_8]; decide) (by rw [c_22_8]; decide) (by rw [c_22_8]; rfl) (by decide) ?_
      refine lv_aload_n hxR hbR dX0_status_137 rfl (lv_at hl 0 rfl) ?_
      refine r_get hxR hbR hts hown hK hI okX0 (ci := 0) rfl 8 (he_l xW_o) 0 (by decide) q263 rfl (v := .ref (adn 10)) rfl dX0_status_138 ?_
      refine r_get hxR hbR hts hown hK hI okX1 (ci := 1) rfl (14 + 0) (he_r (Nat.le_of_ble_eq_true rfl) (Nat.le_of_ble_eq_true rfl) tW_o) 9 (by decide) q159 rfl (v := .int (ivn 9)) (al rfl) dX0_status_141 ?_
      exact hret () (ivn 9) _ _ _ _ _ _ dX0_status_144 hI (by show (ivn 9) = statX ivn (iv 9) hd rf K n x; rw [c_22_8]; rfl) (Nat.le_of_ble_eq_true rfl) (Nat.le_of_ble_eq_true rfl) rfl
    by_cases c_22_9 : x = 9
    · skip
      refine lv_tableIn (off := 123) (tgt := 145) hxR hbR dX0_status_22 (by rw [c_22_9]; decide) (by rw [c_22_9]; decide) (by rw [c_22_9]; rfl) (by decide) ?_
      refine lv_aload_n hxR hbR dX0_status_145 rfl (lv_at hl 0 rfl) ?_
      refine kVI (n := 0) (As := []) (rest := []) (fun w => w ++ (tW E adn ivn hrn csn (sK K))) hxR hbR hmlR hts hown hK hA hl.1 (isCtx.suf _) hI (c0_held l E ad iv ch rd tp rf hd (adn 10) tr gr dy im  ) (lw_V q1464 q1466 qs33 q81 q1467) ⟨rfl, by decide +kernel⟩ 8 0 rfl rfl xW_o rfl (Nat.le_of_ble_eq_true rfl) (Nat.le_of_ble_eq_true rfl) ⟨Nat.le_of_ble_eq_true rfl, Nat.le_of_ble_eq_true rfl⟩ (Nat.le_of_ble_eq_true rfl) dX0_status_146 (fun r_146 u H locs hp hI hz => ?_)
      have hI : wI E AR sR H locs (xW E ad iv ch rd tp rf hd (adn 10) tr gr dy im ++ (tW E adn ivn hrn csn (sK K))) := hI
      have hp : r_146 = nI (heldN hd 8) := hp
      have hr_146 := hp
      subst hr_146
      exact hret () (nI (heldN hd 8)) _ _ _ _ _ _ dX0_status_149 hI (by show (nI (heldN hd 8)) = statX ivn (iv 9) hd rf K n x; rw [c_22_9]; rfl) (Nat.le_of_ble_eq_true rfl) (Nat.le_of_ble_eq_true rfl) rfl
    have c_22_d : x.toInt < 0 ∨ 9 < x.toInt := by
      have z0 : ¬ x.toInt = 0 := fun q => c_22_0 (Int32.toInt_inj.mp q)
      have z1 : ¬ x.toInt = 1 := fun q => c_22_1 (Int32.toInt_inj.mp q)
      have z2 : ¬ x.toInt = 2 := fun q => c_22_2 (Int32.toInt_inj.mp q)
      have z3 : ¬ x.toInt = 3 := fun q => c_22_3 (Int32.toInt_inj.mp q)
      have z4 : ¬ x.toInt = 4 := fun q => c_22_4 (Int32.toInt_inj.mp q)
      have z5 : ¬ x.toInt = 5 := fun q => c_22_5 (Int32.toInt_inj.mp q)
      have z6 : ¬ x.toInt = 6 := fun q => c_22_6 (Int32.toInt_inj.mp q)
      have z7 : ¬ x.toInt = 7 := fun q => c_22_7 (Int32.toInt_inj.mp q)
      have z8 : ¬ x.toInt = 8 := fun q => c_22_8 (Int32.toInt_inj.mp q)
      have z9 : ¬ x.toInt = 9 := fun q => c_22_9 (Int32.toInt_inj.mp q)
      omega
    refine lv_tableOut (tgt := 150) hxR hbR dX0_status_22 c_22_d (by decide) ?_
    refine lv_iconst (v := (-1)) hxR hbR dX0_status_150 (by decide) ?_
    exact hret () (-1) _ _ _ _ _ _ dX0_status_151 hI (by show (-1) = statX ivn (iv 9) hd rf K n x; unfold statX; rw [if_neg c_22_0, if_neg c_22_1, if_neg c_22_2, if_neg c_22_3, if_neg c_22_4, if_neg c_22_5, if_neg c_22_6, if_neg c_22_7, if_neg c_22_8, if_neg c_22_9, if_neg c_5]) (Nat.le_of_ble_eq_true rfl) (Nat.le_of_ble_eq_true rfl) rfl
