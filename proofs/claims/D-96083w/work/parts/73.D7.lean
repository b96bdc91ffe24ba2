theorem c0_ever (l : Launch) (E : En) (ad : Nat → Nat) (iv : Nat → Int32) (ch : Nat → Int32) (rd : Nat → Int32) (tp : Nat → Int32) (rf : Nat → Int32) (hd : Nat → Option Nat) (tr : Nat) (dy : Nat) (im : Option Nat) (adg : Nat → Nat) (ivg : Nat → Int32) (grg : Nat → Int32) (pag : Nat → Int32) (mog : Nat → Int32) (sgg : Nat → Int32) (tng : Option Nat) (adn : Nat → Nat) (ivn : Nat → Int32) (hrn : Nat → Int32) (csn : Nat → Int32) (K : Nat → Nat → Int32) (n st : Nat) (x : Int32) (hn : ivn 3 = nI n) (hst : ivn 4 = nI st) (hn7 : n ≤ 7) (hs2 : 2 ≤ st) (hs4 : st ≤ 4) (hsym : kSym K n) : CtI l E yX0_ever cX0_ever 2 .int 32 0 0 [.ref (ad 11), .int x] (xW E ad iv ch rd tp rf hd (adn 10) tr (adg 8) dy im ++ (gW E adg ivg grg pag mog sgg tng ++ (tW E adn ivn hrn csn (sK K)))) (fun (r : Int32) (u : (Nat → Int32) × (Nat → Int32) × Int32 × (Nat → Int32) × (Nat → Int32) × (Option Nat) × Int32 × Int32) => r = gd (everC x) (if x = 0 then nI (gsV ((GL K n st).map pairN) (orL ((GL K n st).map pairN) ((GL K n st).map pairN).length) 0 (0, 35)).1 else nI (gsV ((GL K n st).map pairN) (orL ((GL K n st).map pairN) ((GL K n st).map pairN).length) 0 (0, 35)).2) (everC x)) (fun (u : (Nat → Int32) × (Nat → Int32) × Int32 × (Nat → Int32) × (Nat → Int32) × (Option Nat) × Int32 × Int32) => xW E ad iv ch rd tp (bumpR rf (everC x)) hd (adn 10) tr (adg 8) dy im ++ (gW E adg (va_up (va_up (va_up ivg 5 u.2.2.1) 6 u.2.2.2.2.2.2.1) 7 u.2.2.2.2.2.2.2) u.2.2.2.1 u.2.2.2.2.1 u.1 u.2.1 u.2.2.2.2.2.1 ++ (tW E adn ivn hrn csn (sK K)))) := by
  have h28 : 2 ^ n ≤ 2 ^ 7 := Nat.pow_le_pow_right (by decide) hn7
  refine CtI.of (by decide +kernel) (Nat.le_of_ble_eq_true rfl) ?_
  intro pR eR sR mR aR bR tR cR AR ls QR hxR hbR hmlR hts hown hlk hnm hA hK hI hl hret
  have hl : lv_has ls 2 [(0, .ref (ad 11)), (1, .int x)] := hl
  refine lv_iload_n hxR hbR dX0_ever_0 rfl (lv_at hl 1 rfl) ?_
  refine lv_iconst (v := 0) hxR hbR dX0_ever_1 (by decide) ?_
  refine lv_iconst (v := 1) hxR hbR dX0_ever_2 (by decide) ?_
  refine kSI (n := 3) (As := [.int x, .int 0, .int 1]) (rest := []) (fun w => w ++ (xW E ad iv ch rd tp rf hd (adn 10) tr (adg 8) dy im ++ (gW E adg ivg grg pag mog sgg tng ++ (tW E adn ivn hrn csn (sK K))))) hxR hbR hmlR hts hown hK hA hl.1 (isCtx.suf _) hI (c0_isIn l E  x 0 1 ) (lw_S q393 q394 q81 q395) (by decide +kernel) rfl (Nat.le_of_ble_eq_true rfl) (Nat.le_of_ble_eq_true rfl) ⟨Nat.le_of_ble_eq_true rfl, Nat.le_of_ble_eq_true rfl⟩ (Nat.le_of_ble_eq_true rfl) dX0_ever_3 (fun r_3 u H locs hp hI hz => ?_)
  have hI : wI E AR sR H locs (xW E ad iv ch rd tp rf hd (adn 10) tr (adg 8) dy im ++ (gW E adg ivg grg pag mog sgg tng ++ (tW E adn ivn hrn csn (sK K)))) := hI
  have hp : r_3 = b2i (decide (Int32.toInt 0 ≤ Int32.toInt x ∧ Int32.toInt x ≤ Int32.toInt 1)) := hp
  have hr_3 := hp
  rcases b2i_cases hr_3 with ⟨c_3, rfl⟩ | ⟨c_3, rfl⟩
  · skip
    have c_3 : Int32.toInt 0 ≤ Int32.toInt x ∧ Int32.toInt x ≤ Int32.toInt 1 := of_decide_eq_true c_3
    have c_3 : 0 ≤ x.toInt ∧ x.toInt ≤ 1 := by exact c_3
    refine lv_if_ne (tgt := 16) hxR hbR dX0_ever_6 (by decide) (fun _ => ?_) (fun c => absurd c (by decide))
    refine lv_aload_n hxR hbR dX0_ever_16 rfl (lv_at hl 0 rfl) ?_
    refine kVT (n := 0) (As := []) (rest := []) (fun w => w) hxR hbR hmlR hts hown hK hA hl.1 isCtx.id hI (c0_groups l E ad iv ch rd tp rf hd tr dy im adg ivg grg pag mog sgg tng adn ivn hrn csn K n st hn hst (by first | omega | with_reducible assumption) (by first | omega | with_reducible assumption) (by first | omega | with_reducible assumption) (by first | omega | with_reducible assumption)) (lw_V q626 q628 qs5 q81 q629) ⟨rfl, by decide +kernel⟩ 8 0 rfl rfl (he_l xW_o) rfl (Nat.le_of_ble_eq_true rfl) (Nat.le_of_ble_eq_true rfl) ⟨Nat.le_of_ble_eq_true rfl, Nat.le_of_ble_eq_true rfl⟩ (Nat.le_of_ble_eq_true rfl) dX0_ever_17 (fun u H locs hp hI hz => ?_)
    obtain ⟨mo2_17, sg2_17⟩ := u
    have hI : wI E AR sR H locs (xW E ad iv ch rd tp rf hd (adn 10) tr (adg 8) dy im ++ (gW E adg (va_up ivg 5 (nI ((GL K n st).length))) (wrL grg 0 (GL K n st)) (wrL pag 0 ((GL K n st).map pairN)) mo2_17 sg2_17 (some (adn 10)) ++ (tW E adn ivn hrn csn (sK K)))) := hI
    have hp : (∀ Z, Z < 2 ^ n → mo2_17 Z = nI (mostV (GL K n st) Z)) ∧ (∀ p, p < n → sg2_17 p = nI (strS K p n)) := hp
    obtain ⟨hmo_17, hsg_17⟩ := hp
    have hLg : gL (wrL grg 0 (GL K n st)) (GL K n st) := gL_wr hn7 hs2 hs4
    have hl35 := hLg.2.1
    refine kVT (n := 0) (As := []) (rest := []) (fun w => (xW E ad iv ch rd tp rf hd (adn 10) tr (adg 8) dy im) ++ (w ++ (tW E adn ivn hrn csn (sK K)))) hxR hbR hmlR hts hown hK hA hl.1 (isCtx.mk _ _) hI (c2_ever l E adg (va_up ivg 5 (nI ((GL K n st).length))) (wrL grg 0 (GL K n st)) (wrL pag 0 ((GL K n st).map pairN)) mo2_17 sg2_17 (some (adn 10)) ((GL K n st).map pairN) (by rw [List.length_map]; rfl) (fun j hj => wrL_in j hj) (pOk_GL hn7 hs2 hs4)) (lw_V q1298 q1299 q1300 q83 q1301) ⟨rfl, by decide +kernel⟩ 0 2 rfl rfl gW_o rfl (Nat.le_of_ble_eq_true rfl) (Nat.le_of_ble_eq_true rfl) ⟨Nat.le_of_ble_eq_true rfl, Nat.le_of_ble_eq_true rfl⟩ (Nat.le_of_ble_eq_true rfl) dX0_ever_20 (fun u H locs hp hI hz => ?_)
    have hI : wI E AR sR H locs (xW E ad iv ch rd tp rf hd (adn 10) tr (adg 8) dy im ++ (gW E adg (va_up (va_up (va_up ivg 5 (nI ((GL K n st).length))) 6 (nI ((gsV ((GL K n st).map pairN) (orL ((GL K n st).map pairN) ((GL K n st).map pairN).length) 0 (0, 35)).1))) 7 (nI ((gsV ((GL K n st).map pairN) (orL ((GL K n st).map pairN) ((GL K n st).map pairN).length) 0 (0, 35)).2))) (wrL grg 0 (GL K n st)) (wrL pag 0 ((GL K n st).map pairN)) mo2_17 sg2_17 (some (adn 10)) ++ (tW E adn ivn hrn csn (sK K)))) := hI
    refine lv_pop hxR hbR dX0_ever_23 rfl ?_
    refine lv_iload_n hxR hbR dX0_ever_24 rfl (lv_at hl 1 rfl) ?_
    refine lv_if_ne (tgt := 38) hxR hbR dX0_ever_25 (by decide) (fun c_25 => ?_) (fun c_25 => ?_)
    · skip
      have i_25 : ¬ (x.toInt = 0) := by have zz := mt i_eq.mpr c_25; exact zz
      refine lv_aload_n hxR hbR dX0_ever_38 rfl (lv_at hl 0 rfl) ?_
      refine r_get hxR hbR hts hown hK hI okX0 (ci := 0) rfl 8 (he_l xW_o) 3 (by decide) q267 rfl (v := .ref (adg 8)) rfl dX0_ever_39 ?_
      refine r_get hxR hbR hts hown hK hI okX2 (ci := 2) rfl (14 + 0) (he_r (Nat.le_of_ble_eq_true rfl) (Nat.le_of_ble_eq_true rfl) (he_l gW_o)) 7 (by decide) q201 rfl (v := .int (nI ((gsV ((GL K n st).map pairN) (orL ((GL K n st).map pairN) ((GL K n st).map pairN).length) 0 (0, 35)).2))) (al va_up_s) dX0_ever_42 ?_
      have hC : everC x = 0 := by
        clear hret hI
        unfold everC
        repeat' split
        all_goals first | rfl | (exfalso; omega) | contradiction | (exfalso; simp_all; done) | simp_all
      have erf : bumpR rf (everC x) = rf := by rw [hC]; exact bump_0 _
      have hI := wI_w (ws' := xW E ad iv ch rd tp (bumpR rf (everC x)) hd (adn 10) tr (adg 8) dy im ++ (gW E adg (va_up (va_up (va_up ivg 5 (nI ((GL K n st).length))) 6 (nI ((gsV ((GL K n st).map pairN) (orL ((GL K n st).map pairN) ((GL K n st).map pairN).length) 0 (0, 35)).1))) 7 (nI ((gsV ((GL K n st).map pairN) (orL ((GL K n st).map pairN) ((GL K n st).map pairN).length) 0 (0, 35)).2))) (wrL grg 0 (GL K n st)) (wrL pag 0 ((GL K n st).map pairN)) mo2_17 sg2_17 (some (adn 10)) ++ (tW E adn ivn hrn csn (sK K)))) (by rw [erf]; try rfl) hI
      exact hret (mo2_17, sg2_17, nI ((GL K n st).length), wrL grg 0 (GL K n st), wrL pag 0 ((GL K n st).map pairN), some (adn 10), nI ((gsV ((GL K n st).map pairN) (orL ((GL K n st).map pairN) ((GL K n st).map pairN).length) 0 (0, 35)).1), nI ((gsV ((GL K n st).map pairN) (orL ((GL K n st).map pairN) ((GL K n st).map pairN).length) 0 (0, 35)).2)) (nI ((gsV ((GL K n st).map pairN) (orL ((GL K n st).map pairN) ((GL K n st).map pairN).length) 0 (0, 35)).2)) _ _ 0 0 _ _ dX0_ever_45 hI (by show (nI ((gsV ((GL K n st).map pairN) (orL ((GL K n st).map pairN) ((GL K n st).map pairN).length) 0 (0, 35)).2)) = gd (everC x) (if x = 0 then nI (gsV ((GL K n st).map pairN) (orL ((GL K n st).map pairN) ((GL K n st).map pairN).length) 0 (0, 35)).1 else nI (gsV ((GL K n st).map pairN) (orL ((GL K n st).map pairN) ((GL K n st).map pairN).length) 0 (0, 35)).2) (everC x); rw [hC, gd_0]; first | rw [if_pos c_25] | rw [if_neg c_25]) (Nat.le_of_ble_eq_true rfl) (Nat.le_of_ble_eq_true rfl) rfl
    · skip
      have i_25 : x.toInt = 0 := by have zz := i_eq.mp c_25; exact zz
      refine lv_aload_n hxR hbR dX0_ever_28 rfl (lv_at hl 0 rfl) ?_
      refine r_get hxR hbR hts hown hK hI okX0 (ci := 0) rfl 8 (he_l xW_o) 3 (by decide) q267 rfl (v := .ref (adg 8)) rfl dX0_ever_29 ?_
      refine r_get hxR hbR hts hown hK hI okX2 (ci := 2) rfl (14 + 0) (he_r (Nat.le_of_ble_eq_true rfl) (Nat.le_of_ble_eq_true rfl) (he_l gW_o)) 6 (by decide) q199 rfl (v := .int (nI ((gsV ((GL K n st).map pairN) (orL ((GL K n st).map pairN) ((GL K n st).map pairN).length) 0 (0, 35)).1))) (al (up_n (by decide) va_up_s)) dX0_ever_32 ?_
      refine lv_goto (tgt := 45) hxR hbR dX0_ever_35 (by decide) ?_
      have hC : everC x = 0 := by
        clear hret hI
        unfold everC
        repeat' split
        all_goals first | rfl | (exfalso; omega) | contradiction | (exfalso; simp_all; done) | simp_all
      have erf : bumpR rf (everC x) = rf := by rw [hC]; exact bump_0 _
      have hI := wI_w (ws' := xW E ad iv ch rd tp (bumpR rf (everC x)) hd (adn 10) tr (adg 8) dy im ++ (gW E adg (va_up (va_up (va_up ivg 5 (nI ((GL K n st).length))) 6 (nI ((gsV ((GL K n st).map pairN) (orL ((GL K n st).map pairN) ((GL K n st).map pairN).length) 0 (0, 35)).1))) 7 (nI ((gsV ((GL K n st).map pairN) (orL ((GL K n st).map pairN) ((GL K n st).map pairN).length) 0 (0, 35)).2))) (wrL grg 0 (GL K n st)) (wrL pag 0 ((GL K n st).map pairN)) mo2_17 sg2_17 (some (adn 10)) ++ (tW E adn ivn hrn csn (sK K)))) (by rw [erf]; try rfl) hI
      exact hret (mo2_17, sg2_17, nI ((GL K n st).length), wrL grg 0 (GL K n st), wrL pag 0 ((GL K n st).map pairN), some (adn 10), nI ((gsV ((GL K n st).map pairN) (orL ((GL K n st).map pairN) ((GL K n st).map pairN).length) 0 (0, 35)).1), nI ((gsV ((GL K n st).map pairN) (orL ((GL K n st).map pairN) ((GL K n st).map pairN).length) 0 (0, 35)).2)) (nI ((gsV ((GL K n st).map pairN) (orL ((GL K n st).map pairN) ((GL K n st).map pairN).length) 0 (0, 35)).1)) _ _ 0 0 _ _ dX0_ever_45 hI (by show (nI ((gsV ((GL K n st).map pairN) (orL ((GL K n st).map pairN) ((GL K n st).map pairN).length) 0 (0, 35)).1)) = gd (everC x) (if x = 0 then nI (gsV ((GL K n st).map pairN) (orL ((GL K n st).map pairN) ((GL K n st).map pairN).length) 0 (0, 35)).1 else nI (gsV ((GL K n st).map pairN) (orL ((GL K n st).map pairN) ((GL K n st).map pairN).length) 0 (0, 35)).2) (everC x); rw [hC, gd_0]; first | rw [if_pos c_25] | rw [if_neg c_25]) (Nat.le_of_ble_eq_true rfl) (Nat.le_of_ble_eq_true rfl) rfl
  · skip
    have c_3 : ¬ (Int32.toInt 0 ≤ Int32.toInt x ∧ Int32.toInt x ≤ Int32.toInt 1) := of_decide_eq_false c_3
    have c_3 : ¬ (0 ≤ x.toInt ∧ x.toInt ≤ 1) := by exact c_3
    refine lv_if_ne (tgt := 16) hxR hbR dX0_ever_6 (by decide) (fun c => absurd c (by decide)) (fun _ => ?_)
    refine lv_aload_n hxR hbR dX0_ever_9 rfl (lv_at hl 0 rfl) ?_
    refine lv_bipush (v := (-2)) hxR hbR dX0_ever_10 (by decide) ?_
    refine kVI (n := 1) (As := [.int (-2)]) (rest := []) (fun w => w ++ (gW E adg ivg grg pag mog sgg tng ++ (tW E adn ivn hrn csn (sK K)))) hxR hbR hmlR hts hown hK hA hl.1 (isCtx.suf _) hI (c0_no l E ad iv ch rd tp rf hd (adn 10) tr (adg 8) dy im (-2) 2 (by decide) (by decide)) (lw_V q396 q398 qs2 q81 q399) ⟨rfl, by decide +kernel⟩ 8 0 rfl rfl xW_o rfl (Nat.le_of_ble_eq_true rfl) (Nat.le_of_ble_eq_true rfl) ⟨Nat.le_of_ble_eq_true rfl, Nat.le_of_ble_eq_true rfl⟩ (Nat.le_of_ble_eq_true rfl) dX0_ever_12 (fun r_12 u H locs hp hI hz => ?_)
    have hI : wI E AR sR H locs (xW E ad iv ch rd tp (va_up rf 2 (rf 2 + 1)) hd (adn 10) tr (adg 8) dy im ++ (gW E adg ivg grg pag mog sgg tng ++ (tW E adn ivn hrn csn (sK K)))) := hI
    have hp : r_12 = (-2) := hp
    have hr_12 := hp
    subst hr_12
    have hC : everC x = (-2) := by
      clear hret hI
      unfold everC
      repeat' split
      all_goals first | rfl | (exfalso; omega) | contradiction | (exfalso; simp_all; done) | simp_all
    have erf : bumpR rf (everC x) = va_up rf 2 (rf 2 + 1) := by rw [hC]; exact bump_2 _
    have hI := wI_w (ws' := xW E ad iv ch rd tp (bumpR rf (everC x)) hd (adn 10) tr (adg 8) dy im ++ (gW E adg (va_up (va_up (va_up ivg 5 (ivg 5)) 6 (ivg 6)) 7 (ivg 7)) grg pag mog sgg tng ++ (tW E adn ivn hrn csn (sK K)))) (by rw [erf, va_up_id (f := ivg) (k := 5) (v := ivg 5) rfl, va_up_id (f := ivg) (k := 6) (v := ivg 6) rfl, va_up_id (f := ivg) (k := 7) (v := ivg 7) rfl]; try rfl) hI
    exact hret (mog, sgg, ivg 5, grg, pag, tng, ivg 6, ivg 7) (-2) _ _ 0 0 _ _ dX0_ever_15 hI (by show (-2) = gd (everC x) (if x = 0 then nI (gsV ((GL K n st).map pairN) (orL ((GL K n st).map pairN) ((GL K n st).map pairN).length) 0 (0, 35)).1 else nI (gsV ((GL K n st).map pairN) (orL ((GL K n st).map pairN) ((GL K n st).map pairN).length) 0 (0, 35)).2) (everC x); rw [hC]; first | rfl | (simp only [gd_0]; split <;> first | rfl | contradiction)) (Nat.le_of_ble_eq_true rfl) (Nat.le_of_ble_eq_true rfl) rfl
