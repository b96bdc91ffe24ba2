theorem c0_least (l : Launch) (E : En) (ad : Nat → Nat) (iv : Nat → Int32) (ch : Nat → Int32) (rd : Nat → Int32) (tp : Nat → Int32) (rf : Nat → Int32) (hd : Nat → Option Nat) (tr : Nat) (im : Option Nat) (adg : Nat → Nat) (ivg : Nat → Int32) (grg : Nat → Int32) (pag : Nat → Int32) (mog : Nat → Int32) (sgg : Nat → Int32) (tng : Option Nat) (adn : Nat → Nat) (ivn : Nat → Int32) (hrn : Nat → Int32) (csn : Nat → Int32) (add : Nat → Nat) (ivd : Nat → Int32) (odd : Nat → Int32) (cod : Nat → Int32) (wtd : Nat → Int32) (tnd : Option Nat) (gnd : Option Nat) (K : Nat → Nat → Int32) (n st : Nat) (x : Int32) (hn : ivn 3 = nI n) (hst : ivn 4 = nI st) (hn7 : n ≤ 7) (hs2 : 2 ≤ st) (hs4 : st ≤ 4) (hsym : kSym K n) (hcost : (∀ p, p < n → ∃ c, c ≤ 9 ∧ csn p = nI c)) (hH : (∀ p, p < n → ∃ x, x < 24 ∧ hrn p = nI x)) : CtI l E yX0_least cX0_least 6 .int 16 0 0 [.ref (ad 11), .int x] (xW E ad iv ch rd tp rf hd (adn 10) tr (adg 8) (add 7) im ++ (gW E adg ivg grg pag mog sgg tng ++ (tW E adn ivn hrn csn (sK K) ++ (dW E add ivd odd cod wtd tnd gnd)))) (fun (r : Int32) (u : (Nat → Int32) × (Nat → Int32) × Int32 × (Nat → Int32) × (Nat → Int32) × (Option Nat) × (Nat → Int32) × (Option Nat) × (Nat → Int32) × (Nat → Int32)) => r = gd (everC x) (leastV K csn hrn n st x) (everC x)) (fun (u : (Nat → Int32) × (Nat → Int32) × Int32 × (Nat → Int32) × (Nat → Int32) × (Option Nat) × (Nat → Int32) × (Option Nat) × (Nat → Int32) × (Nat → Int32)) => xW E ad iv u.2.2.2.2.2.2.2.2.1 u.2.2.2.2.2.2.2.2.2 tp (bumpR rf (everC x)) hd (adn 10) tr (adg 8) (add 7) im ++ (gW E adg (va_up ivg 5 u.2.2.1) u.2.2.2.1 u.2.2.2.2.1 u.1 u.2.1 u.2.2.2.2.2.1 ++ (tW E adn ivn hrn csn (sK K) ++ (dW E add ivd u.2.2.2.2.2.2.1 cod wtd u.2.2.2.2.2.2.2.1 gnd)))) := by
  have h28 : 2 ^ n ≤ 2 ^ 7 := Nat.pow_le_pow_right (by decide) hn7
  have hcom := com_lt2 hH
  have hcl := comL_len hH
  refine CtI.of (by decide +kernel) (Nat.le_of_ble_eq_true rfl) ?_
  intro pR eR sR mR aR bR tR cR AR ls QR hxR hbR hmlR hts hown hlk hnm hA hK hI hl hret
  have hl : lv_has ls 6 [(0, .ref (ad 11)), (1, .int x)] := hl
  refine lv_iload_n hxR hbR dX0_least_0 rfl (lv_at hl 1 rfl) ?_
  refine lv_iconst (v := 0) hxR hbR dX0_least_1 (by decide) ?_
  refine lv_iconst (v := 1) hxR hbR dX0_least_2 (by decide) ?_
  refine kSI (n := 3) (As := [.int x, .int 0, .int 1]) (rest := []) (fun w => w ++ (xW E ad iv ch rd tp rf hd (adn 10) tr (adg 8) (add 7) im ++ (gW E adg ivg grg pag mog sgg tng ++ (tW E adn ivn hrn csn (sK K) ++ (dW E add ivd odd cod wtd tnd gnd))))) hxR hbR hmlR hts hown hK hA hl.1 (isCtx.suf _) hI (c0_isIn l E  x 0 1 ) (lw_S q393 q394 q81 q395) (by decide +kernel) rfl (Nat.le_of_ble_eq_true rfl) (Nat.le_of_ble_eq_true rfl) ⟨Nat.le_of_ble_eq_true rfl, Nat.le_of_ble_eq_true rfl⟩ (Nat.le_of_ble_eq_true rfl) dX0_least_3 (fun r_3 u H locs hp hI hz => ?_)
  have hI : wI E AR sR H locs (xW E ad iv ch rd tp rf hd (adn 10) tr (adg 8) (add 7) im ++ (gW E adg ivg grg pag mog sgg tng ++ (tW E adn ivn hrn csn (sK K) ++ (dW E add ivd odd cod wtd tnd gnd)))) := hI
  have hp : r_3 = b2i (decide (Int32.toInt 0 ≤ Int32.toInt x ∧ Int32.toInt x ≤ Int32.toInt 1)) := hp
  have hr_3 := hp
  rcases b2i_cases hr_3 with ⟨c_3, rfl⟩ | ⟨c_3, rfl⟩
  · skip
    have c_3 : Int32.toInt 0 ≤ Int32.toInt x ∧ Int32.toInt x ≤ Int32.toInt 1 := of_decide_eq_true c_3
    have c_3 : 0 ≤ x.toInt ∧ x.toInt ≤ 1 := by exact c_3
    refine lv_if_ne (tgt := 16) hxR hbR dX0_least_6 (by decide) (fun _ => ?_) (fun c => absurd c (by decide))
    refine lv_aload_n hxR hbR dX0_least_16 rfl (lv_at hl 0 rfl) ?_
    have hI := wI_w app3 hI
    refine kVT (n := 0) (As := []) (rest := []) (fun w => w ++ (dW E add ivd odd cod wtd tnd gnd)) hxR hbR hmlR hts hown hK hA hl.1 (isCtx.suf _) hI (c0_groups l E ad iv ch rd tp rf hd tr (add 7) im adg ivg grg pag mog sgg tng adn ivn hrn csn K n st hn hst (by first | omega | with_reducible assumption) (by first | omega | with_reducible assumption) (by first | omega | with_reducible assumption) (by first | omega | with_reducible assumption)) (lw_V q626 q628 qs5 q81 q629) ⟨rfl, by decide +kernel⟩ 8 0 rfl rfl (he_l xW_o) rfl (Nat.le_of_ble_eq_true rfl) (Nat.le_of_ble_eq_true rfl) ⟨Nat.le_of_ble_eq_true rfl, Nat.le_of_ble_eq_true rfl⟩ (Nat.le_of_ble_eq_true rfl) dX0_least_17 (fun u H locs hp hI hz => ?_)
    obtain ⟨mo2_17, sg2_17⟩ := u
    have hI := wI_w app3.symm hI
    have hI : wI E AR sR H locs (xW E ad iv ch rd tp rf hd (adn 10) tr (adg 8) (add 7) im ++ (gW E adg (va_up ivg 5 (nI ((GL K n st).length))) (wrL grg 0 (GL K n st)) (wrL pag 0 ((GL K n st).map pairN)) mo2_17 sg2_17 (some (adn 10)) ++ (tW E adn ivn hrn csn (sK K) ++ (dW E add ivd odd cod wtd tnd gnd)))) := hI
    have hp : (∀ Z, Z < 2 ^ n → mo2_17 Z = nI (mostV (GL K n st) Z)) ∧ (∀ p, p < n → sg2_17 p = nI (strS K p n)) := hp
    obtain ⟨hmo_17, hsg_17⟩ := hp
    have hLg : gL (wrL grg 0 (GL K n st)) (GL K n st) := gL_wr hn7 hs2 hs4
    have hl35 := hLg.2.1
    refine lv_pop hxR hbR dX0_least_20 rfl ?_
    refine lv_aload_n hxR hbR dX0_least_21 rfl (lv_at hl 0 rfl) ?_
    refine r_get hxR hbR hts hown hK hI okX0 (ci := 0) rfl 8 (he_l xW_o) 4 (by decide) q268 rfl (v := .ref (add 7)) rfl dX0_least_22 ?_
    refine lv_aload_n hxR hbR dX0_least_25 rfl (lv_at hl 0 rfl) ?_
    refine r_get hxR hbR hts hown hK hI okX0 (ci := 0) rfl 8 (he_l xW_o) 0 (by decide) q263 rfl (v := .ref (adn 10)) rfl dX0_least_26 ?_
    have hI : wI E AR sR _ _ (dW E add ivd odd cod wtd tnd gnd ++ (tW E adn ivn hrn csn (sK K) ++ (xW E ad iv ch rd tp rf hd (adn 10) tr (adg 8) (add 7) im ++ (gW E adg (va_up ivg 5 (nI ((GL K n st).length))) (wrL grg 0 (GL K n st)) (wrL pag 0 ((GL K n st).map pairN)) mo2_17 sg2_17 (some (adn 10)))))) := wI_pick ([xW E ad iv ch rd tp rf hd (adn 10) tr (adg 8) (add 7) im, gW E adg (va_up ivg 5 (nI ((GL K n st).length))) (wrL grg 0 (GL K n st)) (wrL pag 0 ((GL K n st).map pairN)) mo2_17 sg2_17 (some (adn 10)), tW E adn ivn hrn csn (sK K), dW E add ivd odd cod wtd tnd gnd]) [3, 2, 0, 1] 4 rfl (by decide) hI
    have hI := wI_w app2 hI
    refine kVT (n := 1) (As := [.ref (adn 10)]) (rest := []) (fun w => w ++ (xW E ad iv ch rd tp rf hd (adn 10) tr (adg 8) (add 7) im ++ (gW E adg (va_up ivg 5 (nI ((GL K n st).length))) (wrL grg 0 (GL K n st)) (wrL pag 0 ((GL K n st).map pairN)) mo2_17 sg2_17 (some (adn 10))))) hxR hbR hmlR hts hown hK hA hl.1 (isCtx.suf _) hI (c3_comes_2 l E add ivd odd cod wtd tnd gnd adn ivn hrn csn K n hn (by first | omega | with_reducible assumption)) (lw_V q1266 q1267 q1268 q84 q1269) ⟨rfl, by decide +kernel⟩ 0 3 rfl rfl (he_l dW_o) rfl (Nat.le_of_ble_eq_true rfl) (Nat.le_of_ble_eq_true rfl) ⟨Nat.le_of_ble_eq_true rfl, Nat.le_of_ble_eq_true rfl⟩ (Nat.le_of_ble_eq_true rfl) dX0_least_29 (fun u H locs hp hI hz => ?_)
    have hI := wI_w app2.symm hI
    have hI : wI E AR sR H locs (dW E add ivd (wrL odd 0 (comL hrn n)) cod wtd (some (adn 10)) gnd ++ (tW E adn ivn hrn csn (sK K) ++ (xW E ad iv ch rd tp rf hd (adn 10) tr (adg 8) (add 7) im ++ (gW E adg (va_up ivg 5 (nI ((GL K n st).length))) (wrL grg 0 (GL K n st)) (wrL pag 0 ((GL K n st).map pairN)) mo2_17 sg2_17 (some (adn 10)))))) := hI
    have hI : wI E AR sR _ _ (xW E ad iv ch rd tp rf hd (adn 10) tr (adg 8) (add 7) im ++ (gW E adg (va_up ivg 5 (nI ((GL K n st).length))) (wrL grg 0 (GL K n st)) (wrL pag 0 ((GL K n st).map pairN)) mo2_17 sg2_17 (some (adn 10)) ++ (tW E adn ivn hrn csn (sK K) ++ (dW E add ivd (wrL odd 0 (comL hrn n)) cod wtd (some (adn 10)) gnd)))) := wI_pick ([dW E add ivd (wrL odd 0 (comL hrn n)) cod wtd (some (adn 10)) gnd, tW E adn ivn hrn csn (sK K), xW E ad iv ch rd tp rf hd (adn 10) tr (adg 8) (add 7) im, gW E adg (va_up ivg 5 (nI ((GL K n st).length))) (wrL grg 0 (GL K n st)) (wrL pag 0 ((GL K n st).map pairN)) mo2_17 sg2_17 (some (adn 10))]) [2, 3, 1, 0] 4 rfl (by decide) hI
    refine lv_astore_n (lv' := [(2, .ref (add 0)), (0, .ref (ad 11)), (1, .int x)]) hxR hbR dX0_least_32 rfl hl (by decide) rfl (fun ls hl => ?_)
    refine lv_aload_n hxR hbR dX0_least_33 rfl (lv_at hl 1 rfl) ?_
    refine r_get hxR hbR hts hown hK hI okX0 (ci := 0) rfl 8 (he_l xW_o) 0 (by decide) q263 rfl (v := .ref (adn 10)) rfl dX0_least_34 ?_
    refine r_get hxR hbR hts hown hK hI okX1 (ci := 1) rfl (14 + (5 + 0)) (he_r (Nat.le_of_ble_eq_true rfl) (Nat.le_of_ble_eq_true rfl) (he_r (Nat.le_of_ble_eq_true rfl) (Nat.le_of_ble_eq_true rfl) (he_l tW_o))) 3 (by decide) q144 rfl (v := .int (nI n)) (al hn) dX0_least_37 ?_
    refine lv_istore_n (lv' := [(3, .int (nI n)), (2, .ref (add 0)), (0, .ref (ad 11)), (1, .int x)]) hxR hbR dX0_least_40 rfl hl (by decide) rfl (fun ls hl => ?_)
    have lp_41 : ∀ (fu : Nat) (kx : Int32) (m : Nat) (chm : Nat → Int32) (rdm : Nat → Int32), (kx = nI m - 1) → (m ≤ n + 1) → (tbA K csn hrn n st chm rdm m) → m < fu → ∀ (H : Heap) (locs : List Loc), wI E AR sR H locs (xW E ad iv chm rdm tp rf hd (adn 10) tr (adg 8) (add 7) im ++ (gW E adg (va_up ivg 5 (nI ((GL K n st).length))) (wrL grg 0 (GL K n st)) (wrL pag 0 ((GL K n st).map pairN)) mo2_17 sg2_17 (some (adn 10)) ++ (tW E adn ivn hrn csn (sK K) ++ (dW E add ivd (wrL odd 0 (comL hrn n)) cod wtd (some (adn 10)) gnd)))) → ∀ ls : Array Slot, lv_has ls 6 [(0, .ref (ad 11)), (1, .int x), (2, .ref (add 0)), (3, .int kx)] → W pR l eR (rmF 16 0 0) sR mR aR bR tR cR H locs 0 0 QR (F0 mR 41 ls []) := by
      intro fu
      induction fu with
      | zero =>
        intro kx m chm rdm hx hm hTA hfu
        exact absurd hfu (Nat.not_lt_zero _)
      | succ fu ih_41 =>
        intro kx m chm rdm hx hm hTA hfu H locs hI ls hl
        refine lv_iload_n hxR hbR dX0_least_41 rfl (lv_at hl 3 rfl) ?_
        refine lv_if_lt (tgt := 114) hxR hbR dX0_least_42 (by decide) (fun c_42 => ?_) (fun c_42 => ?_)
        · skip
          have i_42 : kx.toInt < 0 := by have zz := i_lt.mp c_42; exact zz
          have hm0 := least_m hx c_42 hm hn7
          subst hm0
          obtain ⟨c9, r9, ec9, er9, hp9⟩ := hTA 0 0 (Nat.le_refl _) (by omega) (nd_0 _)
          have hp9d := pkR_div hp9 (by rw [show bitsN 0 8 = 0 from by decide]; omega)
          refine lv_iload_n hxR hbR dX0_least_114 rfl (lv_at hl 1 rfl) ?_
          refine lv_if_ne (tgt := 127) hxR hbR dX0_least_115 (by decide) (fun c_115 => ?_) (fun c_115 => ?_)
          · skip
            have i_115 : ¬ (x.toInt = 0) := by have zz := mt i_eq.mpr c_115; exact zz
            refine lv_aload_n hxR hbR dX0_least_127 rfl (lv_at hl 0 rfl) ?_
            refine r_get hxR hbR hts hown hK hI okX0 (ci := 0) rfl 8 (he_l xW_o) 6 (by decide) q270 rfl (v := .ref (ad 6)) rfl dX0_least_128 ?_
            refine lv_iconst (v := 0) hxR hbR dX0_least_131 (by decide) ?_
            refine r_iald hxR hbR hK hI 10 (n := 1024) (J := 0) (f := rdm) (v := nI r9) (he_l (xW_g6 rfl)) (by omega) (by decide) er9 dX0_least_132 ?_
            have hC : everC x = 0 := by
              clear hret hI
              unfold everC
              repeat' split
              all_goals first | rfl | (exfalso; omega) | contradiction | (exfalso; simp_all; done) | simp_all
            generalize wrL odd 0 (comL hrn n) = zod at hI
            have erf : bumpR rf (everC x) = rf := by rw [hC]; exact bump_0 _
            have hI := wI_w (ws' := xW E ad iv chm rdm tp (bumpR rf (everC x)) hd (adn 10) tr (adg 8) (add 7) im ++ (gW E adg (va_up ivg 5 (nI ((GL K n st).length))) (wrL grg 0 (GL K n st)) (wrL pag 0 ((GL K n st).map pairN)) mo2_17 sg2_17 (some (adn 10)) ++ (tW E adn ivn hrn csn (sK K) ++ (dW E add ivd zod cod wtd (some (adn 10)) gnd)))) (by rw [erf]; try rfl) hI
            exact hret (mo2_17, sg2_17, nI ((GL K n st).length), wrL grg 0 (GL K n st), wrL pag 0 ((GL K n st).map pairN), some (adn 10), zod, some (adn 10), chm, rdm) (nI r9) _ _ 0 0 _ _ dX0_least_133 hI (by show (nI r9) = gd (everC x) (leastV K csn hrn n st x) (everC x); rw [hC, gd_0]; first | (rw [leastV_0 c_115]; exact hp9d.1.symm) | (rw [leastV_1 c_3 c_115]; exact hp9d.2.symm)) (Nat.le_of_ble_eq_true rfl) (Nat.le_of_ble_eq_true rfl) rfl
          · skip
            have i_115 : x.toInt = 0 := by have zz := i_eq.mp c_115; exact zz
            refine lv_aload_n hxR hbR dX0_least_118 rfl (lv_at hl 0 rfl) ?_
            refine r_get hxR hbR hts hown hK hI okX0 (ci := 0) rfl 8 (he_l xW_o) 5 (by decide) q269 rfl (v := .ref (ad 5)) rfl dX0_least_119 ?_
            refine lv_iconst (v := 0) hxR hbR dX0_least_122 (by decide) ?_
            refine r_iald hxR hbR hK hI 9 (n := 1024) (J := 0) (f := chm) (v := nI c9) (he_l (xW_g5 rfl)) (by omega) (by decide) ec9 dX0_least_123 ?_
            refine lv_goto (tgt := 133) hxR hbR dX0_least_124 (by decide) ?_
            have hC : everC x = 0 := by
              clear hret hI
              unfold everC
              repeat' split
              all_goals first | rfl | (exfalso; omega) | contradiction | (exfalso; simp_all; done) | simp_all
            generalize wrL odd 0 (comL hrn n) = zod at hI
            have erf : bumpR rf (everC x) = rf := by rw [hC]; exact bump_0 _
            have hI := wI_w (ws' := xW E ad iv chm rdm tp (bumpR rf (everC x)) hd (adn 10) tr (adg 8) (add 7) im ++ (gW E adg (va_up ivg 5 (nI ((GL K n st).length))) (wrL grg 0 (GL K n st)) (wrL pag 0 ((GL K n st).map pairN)) mo2_17 sg2_17 (some (adn 10)) ++ (tW E adn ivn hrn csn (sK K) ++ (dW E add ivd zod cod wtd (some (adn 10)) gnd)))) (by rw [erf]; try rfl) hI
            exact hret (mo2_17, sg2_17, nI ((GL K n st).length), wrL grg 0 (GL K n st), wrL pag 0 ((GL K n st).map pairN), some (adn 10), zod, some (adn 10), chm, rdm) (nI c9) _ _ 0 0 _ _ dX0_least_133 hI (by show (nI c9) = gd (everC x) (leastV K csn hrn n st x) (everC x); rw [hC, gd_0]; first | (rw [leastV_0 c_115]; exact hp9d.1.symm) | (rw [leastV_1 c_3 c_115]; exact hp9d.2.symm)) (Nat.le_of_ble_eq_true rfl) (Nat.le_of_ble_eq_true rfl) rfl
        · skip
          have i_42 : ¬ (kx.toInt < 0) := by have zz := mt i_lt.mpr c_42; exact zz
          obtain ⟨k, hk, rfl⟩ := least_k hx c_42 hm hn7
          have tk : (nI k).toInt = (k : Int) := nI_toInt (by omega)
          refine lv_iconst (v := 0) hxR hbR dX0_least_45 (by decide) ?_
          refine lv_istore (lv' := [(4, .int 0), (0, .ref (ad 11)), (1, .int x), (2, .ref (add 0)), (3, .int (nI k))]) hxR hbR dX0_least_46 hl (by decide) rfl (fun ls hl => ?_)
          refine lv_iconst (v := 0) hxR hbR dX0_least_48 (by decide) ?_
          refine lv_istore (lv' := [(5, .int 0), (4, .int 0), (0, .ref (ad 11)), (1, .int x), (2, .ref (add 0)), (3, .int (nI k))]) hxR hbR dX0_least_49 hl (by decide) rfl (fun ls hl => ?_)
          have lp_51 : ∀ (fu : Nat) (i : Nat) (cm : Nat), (i ≤ k) → (cm = (cmZ (fun j => (comL hrn n).getD j 0)) i) → k - i < fu → ∀ (H : Heap) (locs : List Loc), wI E AR sR H locs (xW E ad iv chm rdm tp rf hd (adn 10) tr (adg 8) (add 7) im ++ (gW E adg (va_up ivg 5 (nI ((GL K n st).length))) (wrL grg 0 (GL K n st)) (wrL pag 0 ((GL K n st).map pairN)) mo2_17 sg2_17 (some (adn 10)) ++ (tW E adn ivn hrn csn (sK K) ++ (dW E add ivd (wrL odd 0 (comL hrn n)) cod wtd (some (adn 10)) gnd)))) → ∀ ls : Array Slot, lv_has ls 6 [(0, .ref (ad 11)), (1, .int x), (2, .ref (add 0)), (3, .int (nI k)), (4, .int (nI cm)), (5, .int (nI i))] → W pR l eR (rmF 16 0 0) sR mR aR bR tR cR H locs 0 0 QR (F0 mR 51 ls []) := by
            intro fu
            induction fu with
            | zero =>
              intro i cm hi hcm hfu
              exact absurd hfu (Nat.not_lt_zero _)
            | succ fu ih_51 =>
              intro i cm hi hcm hfu H locs hI ls hl
              refine lv_iload hxR hbR dX0_least_51 (lv_at hl 5 rfl) ?_
              refine lv_iload_n hxR hbR dX0_least_53 rfl (lv_at hl 3 rfl) ?_
              refine lv_icmp_ge (tgt := 74) hxR hbR dX0_least_54 (by decide) (fun c_54 => ?_) (fun c_54 => ?_)
              · skip
                have c_54 : k ≤ i := (n_le (a := k) (b := i) (by omega) (by omega)).mp c_54
                have hck : cm = (cmZ (fun j => (comL hrn n).getD j 0)) k := by rw [hcm, show i = k by omega]
                have hcn : (cmZ (fun j => (comL hrn n).getD j 0)) k < 2 ^ n := cmZ_lt k (fun j hj => hcom j (by omega))
                clear hcm
                have hcm := hck
                refine lv_iconst (v := 0) hxR hbR dX0_least_74 (by decide) ?_
                refine lv_istore (lv' := [(5, .int 0), (0, .ref (ad 11)), (1, .int x), (2, .ref (add 0)), (3, .int (nI k)), (4, .int (nI cm))]) hxR hbR dX0_least_75 hl (by decide) rfl (fun ls hl => ?_)
                have lp_77 : ∀ (fu : Nat) (y : Nat) (chx : Nat → Int32) (rdx : Nat → Int32), (y ≤ cm + 1) → (tbA K csn hrn n st chx rdx (k + 1)) → (tbY K csn hrn n st chx rdx k y) → cm + 1 - y < fu → ∀ (H : Heap) (locs : List Loc), wI E AR sR H locs (xW E ad iv chx rdx tp rf hd (adn 10) tr (adg 8) (add 7) im ++ (gW E adg (va_up ivg 5 (nI ((GL K n st).length))) (wrL grg 0 (GL K n st)) (wrL pag 0 ((GL K n st).map pairN)) mo2_17 sg2_17 (some (adn 10)) ++ (tW E adn ivn hrn csn (sK K) ++ (dW E add ivd (wrL odd 0 (comL hrn n)) cod wtd (some (adn 10)) gnd)))) → ∀ ls : Array Slot, lv_has ls 6 [(0, .ref (ad 11)), (1, .int x), (2, .ref (add 0)), (3, .int (nI k)), (4, .int (nI cm)), (5, .int (nI y))] → W pR l eR (rmF 16 0 0) sR mR aR bR tR cR H locs 0 0 QR (F0 mR 77 ls []) := by
                  intro fu
                  induction fu with
                  | zero =>
                    intro y chx rdx hyc hTA2 hTY hfu
                    exact absurd hfu (Nat.not_lt_zero _)
                  | succ fu ih_77 =>
                    intro y chx rdx hyc hTA2 hTY hfu H locs hI ls hl
                    refine lv_iload hxR hbR dX0_least_77 (lv_at hl 5 rfl) ?_
                    refine lv_iload hxR hbR dX0_least_79 (lv_at hl 4 rfl) ?_
                    refine lv_icmp_gt (tgt := 108) hxR hbR dX0_least_81 (by decide) (fun c_81 => ?_) (fun c_81 => ?_)
                    · skip
                      have c_81 : cm < y := (n_lt (a := cm) (b := y) (by omega) (by omega)).mp c_81
                      refine lv_iinc (v := nI k - 1) (lv' := [(3, .int (nI k - 1)), (0, .ref (ad 11)), (1, .int x), (2, .ref (add 0)), (4, .int (nI cm)), (5, .int (nI y))]) hxR hbR dX0_least_108 hl (k := 3) rfl (show nI k + (-1) = nI k - 1 from (Int32.sub_eq_add_neg (nI k) 1).symm) (by decide) rfl (fun ls hl => ?_)
                      refine lv_goto (tgt := 41) hxR hbR dX0_least_111 (by decide) ?_
                      exact ih_41 (nI k - 1) k chx rdx rfl (by first | omega | with_reducible assumption) (tbA_step hTA2 hTY (by omega)) (by omega) _ _ hI _ (lv_sub hl [1, 2, 3, 0] rfl)
                    · skip
                      have c_81 : y ≤ cm := Nat.le_of_not_lt (fun zz => c_81 ((n_lt (a := cm) (b := y) (by omega) (by omega)).mpr zz))
                      refine lv_iload hxR hbR dX0_least_84 (lv_at hl 5 rfl) ?_
                      refine lv_iload hxR hbR dX0_least_86 (lv_at hl 4 rfl) ?_
                      refine lv_iconst (v := (-1)) hxR hbR dX0_least_88 (by decide) ?_
                      refine lv_ixor hxR hbR dX0_least_89 ?_
                      refine lv_iand hxR hbR dX0_least_90 ?_
                      refine lv_as (y := nI (nd y cm)) (nb_nd y cm) ?_
                      refine lv_if_ne (tgt := 102) hxR hbR dX0_least_91 (by decide) (fun c_91 => ?_) (fun c_91 => ?_)
                      · skip
                        have c_91 : ¬ (nd y cm) = 0 := fun zz => c_91 ((n_eq (a := (nd y cm)) (b := 0) (Nat.lt_of_le_of_lt (nd_le y cm) (by omega)) (by decide)).mpr zz)
                        refine lv_iinc (v := nI (y + 1)) (lv' := [(5, .int (nI (y + 1))), (0, .ref (ad 11)), (1, .int x), (2, .ref (add 0)), (3, .int (nI k)), (4, .int (nI cm))]) hxR hbR dX0_least_102 hl (k := 5) rfl (show nI y + 1 = nI (y + 1) from nI_add _ 1) (by decide) rfl (fun ls hl => ?_)
                        refine lv_goto (tgt := 77) hxR hbR dX0_least_105 (by decide) ?_
                        exact ih_77 (y + 1) chx rdx (by first | omega | with_reducible assumption) (by first | exact hTA2 | exact tbA_put hTA2 (by omega)) (by first | exact tbY_skip hTY (by rw [← hcm]; exact c_91) | exact tbY_put hTY hpk_99) (by omega) _ _ hI _ (lv_sub hl [1, 2, 3, 4, 5, 0] rfl)
                      · skip
                        have c_91 : (nd y cm) = 0 := (n_eq (a := (nd y cm)) (b := 0) (Nat.lt_of_le_of_lt (nd_le y cm) (by omega)) (by decide)).mp c_91
                        have hyn : y < 2 ^ n := by omega
                        have hbc := cmZ_bits (com := (fun j => (comL hrn n).getD j 0)) k
                        have hbs := bits_sub (show nd y ((cmZ (fun j => (comL hrn n).getD j 0)) k) = 0 by rw [← hcm]; exact c_91) 8
                        have hsb := (show nd y ((cmZ (fun j => (comL hrn n).getD j 0)) k) = 0 by rw [← hcm]; exact c_91)
                        refine lv_aload_n hxR hbR dX0_least_94 rfl (lv_at hl 0 rfl) ?_
                        refine lv_iload_n hxR hbR dX0_least_95 rfl (lv_at hl 3 rfl) ?_
                        refine lv_iload hxR hbR dX0_least_96 (lv_at hl 5 rfl) ?_
                        refine lv_aload_n hxR hbR dX0_least_98 rfl (lv_at hl 2 rfl) ?_
                        refine kVV (n := 3) (As := [.int (nI k), .int (nI y), .ref (add 0)]) (rest := []) (fun w => w) hxR hbR hmlR hts hown hK hA hl.1 isCtx.id hI (c0_least_2 l E ad iv chx rdx tp rf hd tr (add 7) im adg (va_up ivg 5 (nI ((GL K n st).length))) (wrL grg 0 (GL K n st)) (wrL pag 0 ((GL K n st).map pairN)) mo2_17 sg2_17 (some (adn 10)) adn ivn hrn csn add ivd (wrL odd 0 (comL hrn n)) cod wtd (some (adn 10)) gnd K n st k y hn (by first | omega | with_reducible assumption) va_up_s hLg hcost (fun p hp _ => by obtain ⟨x9, h8, h9⟩ := hH p hp; exact ⟨x9, by omega, h9⟩) (by first | omega | with_reducible assumption) (fun e9 => by subst e9; rw [hcm] at hyc; have h9 := c_81; rw [hcm] at h9; exact Nat.le_zero.mp h9) (by first | omega | with_reducible assumption) (by omega) (fun j hj => wrL_in j (by rw [hcl]; exact hj)) hcom (fun h0 => by obtain ⟨x9, y9, h8, h7, -, h6⟩ := com_late hH (Nat.le_refl (k - 1)) (by omega); refine ⟨y9, by omega, h6, fun p hp hb => ?_⟩; obtain ⟨j9, a1, a2⟩ := cmZ_bit k (sub_bit hsb hb); obtain ⟨u9, v9, b1, b2, b3, b4⟩ := com_late hH (show j9 ≤ k - 1 by omega) (by omega); have a2 : (comL hrn n).getD j9 0 = p := a2; rw [a2] at b3; exact ⟨u9, (by have := (nI_eq (by omega) (by omega)).mp (h6.symm.trans b4); omega), b3⟩) (fun h0 => hTA2 (k + 1) _ (Nat.le_refl _) (by omega) (nd0_cm (com := (fun j => (comL hrn n).getD j 0)) hsb)) (fun g hg h0 => hTY _ (nd_lt h0 (by have h9 := (hLg.2.2 g hg).2; exact h9)) (nd0_nd hsb))) (lw_V q1270 q1272 qs23 q81 q1273) ⟨rfl, by decide +kernel⟩ 8 0 rfl rfl (he_l xW_o) rfl (Nat.le_of_ble_eq_true rfl) (Nat.le_of_ble_eq_true rfl) ⟨Nat.le_of_ble_eq_true rfl, Nat.le_of_ble_eq_true rfl⟩ (Nat.le_of_ble_eq_true rfl) dX0_least_99 (fun u H locs hp hI hz => ?_)
                        obtain ⟨cc_99, rr_99⟩ := u
                        have hI : wI E AR sR H locs (xW E ad iv (va_up chx (128 * k + y) (nI cc_99)) (va_up rdx (128 * k + y) (nI rr_99)) tp rf hd (adn 10) tr (adg 8) (add 7) im ++ (gW E adg (va_up ivg 5 (nI ((GL K n st).length))) (wrL grg 0 (GL K n st)) (wrL pag 0 ((GL K n st).map pairN)) mo2_17 sg2_17 (some (adn 10)) ++ (tW E adn ivn hrn csn (sK K) ++ (dW E add ivd (wrL odd 0 (comL hrn n)) cod wtd (some (adn 10)) gnd)))) := hI
                        have hp : pkR (lsV (GL K n st) (fun j => (comL hrn n).getD j 0) csn hrn n k y) cc_99 rr_99 (bitsN y 8 + (n - k)) := hp
                        have hpk_99 := hp
                        refine lv_iinc (v := nI (y + 1)) (lv' := [(5, .int (nI (y + 1))), (0, .ref (ad 11)), (1, .int x), (2, .ref (add 0)), (3, .int (nI k)), (4, .int (nI cm))]) hxR hbR dX0_least_102 hl (k := 5) rfl (show nI y + 1 = nI (y + 1) from nI_add _ 1) (by decide) rfl (fun ls hl => ?_)
                        refine lv_goto (tgt := 77) hxR hbR dX0_least_105 (by decide) ?_
                        exact ih_77 (y + 1) (va_up chx (128 * k + y) (nI cc_99)) (va_up rdx (128 * k + y) (nI rr_99)) (by first | omega | with_reducible assumption) (by first | exact hTA2 | exact tbA_put hTA2 (by omega)) (by first | exact tbY_skip hTY (by rw [← hcm]; exact c_91) | exact tbY_put hTY hpk_99) (by omega) _ _ hI _ (lv_sub hl [1, 2, 3, 4, 5, 0] rfl)
                exact lp_77 _ 0 chm rdm (by first | omega | with_reducible assumption) (by rw [hk]; exact hTA) tbY_0 (Nat.lt_succ_self _) _ _ hI _ (lv_sub hl [1, 2, 3, 4, 5, 0] rfl)
              · skip
                have c_54 : i < k := Nat.lt_of_not_le (fun zz => c_54 ((n_le (a := k) (b := i) (by omega) (by omega)).mpr zz))
                have hcj := hcom i (by omega)
                refine lv_iload hxR hbR dX0_least_57 (lv_at hl 4 rfl) ?_
                refine lv_iconst (v := 1) hxR hbR dX0_least_59 (by decide) ?_
                refine lv_aload_n hxR hbR dX0_least_60 rfl (lv_at hl 2 rfl) ?_
                refine lv_iload hxR hbR dX0_least_61 (lv_at hl 5 rfl) ?_
                refine r_iald hxR hbR hK hI (14 + (5 + (4 + 1))) (n := 7) (J := i) (f := wrL odd 0 (comL hrn n)) (v := nI ((comL hrn n).getD i 0)) (he_r (Nat.le_of_ble_eq_true rfl) (Nat.le_of_ble_eq_true rfl) (he_r (Nat.le_of_ble_eq_true rfl) (Nat.le_of_ble_eq_true rfl) (he_r (Nat.le_of_ble_eq_true rfl) (Nat.le_of_ble_eq_true rfl) (dW_g0 rfl)))) (by omega) (by decide) (wrL_in _ (by rw [hcl]; omega)) dX0_least_63 ?_
                refine lv_ishl hxR hbR dX0_least_64 ?_
                refine lv_as (y := nI (2 ^ ((comL hrn n).getD i 0))) (nb_shl ((comL hrn n).getD i 0) (by omega)) ?_
                refine lv_ior hxR hbR dX0_least_65 ?_
                refine lv_as (y := nI (cm ||| (2 ^ ((comL hrn n).getD i 0)))) (nb_or cm (2 ^ ((comL hrn n).getD i 0))) ?_
                refine lv_istore (lv' := [(4, .int (nI (cm ||| (2 ^ ((comL hrn n).getD i 0))))), (0, .ref (ad 11)), (1, .int x), (2, .ref (add 0)), (3, .int (nI k)), (5, .int (nI i))]) hxR hbR dX0_least_66 hl (by decide) rfl (fun ls hl => ?_)
                refine lv_iinc (v := nI (i + 1)) (lv' := [(5, .int (nI (i + 1))), (4, .int (nI (cm ||| (2 ^ ((comL hrn n).getD i 0))))), (0, .ref (ad 11)), (1, .int x), (2, .ref (add 0)), (3, .int (nI k))]) hxR hbR dX0_least_68 hl (k := 5) rfl (show nI i + 1 = nI (i + 1) from nI_add _ 1) (by decide) rfl (fun ls hl => ?_)
                refine lv_goto (tgt := 51) hxR hbR dX0_least_71 (by decide) ?_
                exact ih_51 (i + 1) (cm ||| (2 ^ ((comL hrn n).getD i 0))) (by first | omega | with_reducible assumption) (by rw [hcm]; rfl) (by omega) _ _ hI _ (lv_sub hl [2, 3, 4, 5, 1, 0] rfl)
          exact lp_51 _ 0 0 (by first | omega | with_reducible assumption) rfl (Nat.lt_succ_self _) _ _ hI _ (lv_sub hl [2, 3, 4, 5, 1, 0] rfl)
    exact lp_41 _ (nI n) (n + 1) ch rd (nI_pred n).symm (by first | omega | with_reducible assumption) tbA_top (Nat.lt_succ_self _) _ _ hI _ (lv_sub hl [2, 3, 1, 0] rfl)
  · skip
    have c_3 : ¬ (Int32.toInt 0 ≤ Int32.toInt x ∧ Int32.toInt x ≤ Int32.toInt 1) := of_decide_eq_false c_3
    have c_3 : ¬ (0 ≤ x.toInt ∧ x.toInt ≤ 1) := by exact c_3
    refine lv_if_ne (tgt := 16) hxR hbR dX0_least_6 (by decide) (fun c => absurd c (by decide)) (fun _ => ?_)
    refine lv_aload_n hxR hbR dX0_least_9 rfl (lv_at hl 0 rfl) ?_
    refine lv_bipush (v := (-2)) hxR hbR dX0_least_10 (by decide) ?_
    refine kVI (n := 1) (As := [.int (-2)]) (rest := []) (fun w => w ++ (gW E adg ivg grg pag mog sgg tng ++ (tW E adn ivn hrn csn (sK K) ++ (dW E add ivd odd cod wtd tnd gnd)))) hxR hbR hmlR hts hown hK hA hl.1 (isCtx.suf _) hI (c0_no l E ad iv ch rd tp rf hd (adn 10) tr (adg 8) (add 7) im (-2) 2 (by decide) (by decide)) (lw_V q396 q398 qs2 q81 q399) ⟨rfl, by decide +kernel⟩ 8 0 rfl rfl xW_o rfl (Nat.le_of_ble_eq_true rfl) (Nat.le_of_ble_eq_true rfl) ⟨Nat.le_of_ble_eq_true rfl, Nat.le_of_ble_eq_true rfl⟩ (Nat.le_of_ble_eq_true rfl) dX0_least_12 (fun r_12 u H locs hp hI hz => ?_)
    have hI : wI E AR sR H locs (xW E ad iv ch rd tp (va_up rf 2 (rf 2 + 1)) hd (adn 10) tr (adg 8) (add 7) im ++ (gW E adg ivg grg pag mog sgg tng ++ (tW E adn ivn hrn csn (sK K) ++ (dW E add ivd odd cod wtd tnd gnd)))) := hI
    have hp : r_12 = (-2) := hp
    have hr_12 := hp
    subst hr_12
    have hC : everC x = (-2) := by
      clear hret hI
      unfold everC
      repeat' split
      all_goals first | rfl | (exfalso; omega) | contradiction | (exfalso; simp_all; done) | simp_all
    have erf : bumpR rf (everC x) = va_up rf 2 (rf 2 + 1) := by rw [hC]; exact bump_2 _
    have hI := wI_w (ws' := xW E ad iv ch rd tp (bumpR rf (everC x)) hd (adn 10) tr (adg 8) (add 7) im ++ (gW E adg (va_up ivg 5 (ivg 5)) grg pag mog sgg tng ++ (tW E adn ivn hrn csn (sK K) ++ (dW E add ivd odd cod wtd tnd gnd)))) (by rw [erf, va_up_id (f := ivg) (k := 5) (v := ivg 5) rfl]; try rfl) hI
    exact hret (mog, sgg, ivg 5, grg, pag, tng, odd, tnd, ch, rd) (-2) _ _ 0 0 _ _ dX0_least_15 hI (by show (-2) = gd (everC x) (leastV K csn hrn n st x) (everC x); rw [hC]; first | rfl | (simp only [gd_0]; split <;> first | rfl | contradiction)) (Nat.le_of_ble_eq_true rfl) (Nat.le_of_ble_eq_true rfl) rfl
