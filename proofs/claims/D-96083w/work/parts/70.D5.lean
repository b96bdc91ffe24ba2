theorem mx_sub {b m : Nat} (hb : b < 2 ^ 30) (hm : m < 2 ^ 30) : (if (0 : Int32) < nI b - nI m then nI b - nI m else 0) = nI (b - m) := by
  rcases Nat.lt_or_ge m b with h | h
  · rw [pk_sub (by omega), if_pos (by rw [Int32.lt_iff_toInt_lt, nI_toInt (by omega)]; show (0 : Int) < _; omega)]
  · rw [if_neg (by rw [Int32.lt_iff_toInt_lt, pk_sub_toInt hb hm]; show ¬ (0 : Int) < _; omega), show b - m = 0 by omega]; rfl

theorem c0_worst (l : Launch) (E : En) (ad : Nat → Nat) (iv : Nat → Int32) (ch : Nat → Int32) (rd : Nat → Int32) (tp : Nat → Int32) (rf : Nat → Int32) (hd : Nat → Option Nat) (tr : Nat) (dy : Nat) (im : Option Nat) (adg : Nat → Nat) (ivg : Nat → Int32) (grg : Nat → Int32) (pag : Nat → Int32) (mog : Nat → Int32) (sgg : Nat → Int32) (tng : Option Nat) (adn : Nat → Nat) (ivn : Nat → Int32) (hrn : Nat → Int32) (csn : Nat → Int32) (K : Nat → Nat → Int32) (n st : Nat)  (hn : ivn 3 = nI n) (hst : ivn 4 = nI st) (hn7 : n ≤ 7) (hs2 : 2 ≤ st) (hs4 : st ≤ 4) (hsym : kSym K n) : CtI l E yX0_worst cX0_worst 6 .int 15 0 0 [.ref (ad 11)] (xW E ad iv ch rd tp rf hd (adn 10) tr (adg 8) dy im ++ (gW E adg ivg grg pag mog sgg tng ++ (tW E adn ivn hrn csn (sK K)))) (fun (r : Int32) (u : (Nat → Int32) × (Nat → Int32) × Int32 × (Nat → Int32) × (Nat → Int32) × (Option Nat)) => r = gd (wcC (fun p q => clN p q (GL K n st)) K n) ((wcI (fun p q => clN p q (GL K n st)) K n n).1) (wcC (fun p q => clN p q (GL K n st)) K n)) (fun (u : (Nat → Int32) × (Nat → Int32) × Int32 × (Nat → Int32) × (Nat → Int32) × (Option Nat)) => xW E ad iv ch rd tp (bumpR rf (wcC (fun p q => clN p q (GL K n st)) K n)) hd (adn 10) tr (adg 8) dy im ++ (gW E adg (va_up ivg 5 u.2.2.1) u.2.2.2.1 u.2.2.2.2.1 u.1 u.2.1 u.2.2.2.2.2 ++ (tW E adn ivn hrn csn (sK K)))) := by
  have h28 : 2 ^ n ≤ 2 ^ 7 := Nat.pow_le_pow_right (by decide) hn7
  refine CtI.of (by decide +kernel) (Nat.le_of_ble_eq_true rfl) ?_
  intro pR eR sR mR aR bR tR cR AR ls QR hxR hbR hmlR hts hown hlk hnm hA hK hI hl hret
  have hl : lv_has ls 6 [(0, .ref (ad 11))] := hl
  refine lv_aload_n hxR hbR dX0_worst_0 rfl (lv_at hl 0 rfl) ?_
  refine kVT (n := 0) (As := []) (rest := []) (fun w => w) hxR hbR hmlR hts hown hK hA hl.1 isCtx.id hI (c0_groups l E ad iv ch rd tp rf hd tr dy im adg ivg grg pag mog sgg tng adn ivn hrn csn K n st hn hst (by first | omega | with_reducible assumption) (by first | omega | with_reducible assumption) (by first | omega | with_reducible assumption) (by first | omega | with_reducible assumption)) (lw_V q626 q628 qs5 q81 q629) ⟨rfl, by decide +kernel⟩ 8 0 rfl rfl (he_l xW_o) rfl (Nat.le_of_ble_eq_true rfl) (Nat.le_of_ble_eq_true rfl) ⟨Nat.le_of_ble_eq_true rfl, Nat.le_of_ble_eq_true rfl⟩ (Nat.le_of_ble_eq_true rfl) dX0_worst_1 (fun u H locs hp hI hz => ?_)
  obtain ⟨mo2_1, sg2_1⟩ := u
  have hI : wI E AR sR H locs (xW E ad iv ch rd tp rf hd (adn 10) tr (adg 8) dy im ++ (gW E adg (va_up ivg 5 (nI ((GL K n st).length))) (wrL grg 0 (GL K n st)) (wrL pag 0 ((GL K n st).map pairN)) mo2_1 sg2_1 (some (adn 10)) ++ (tW E adn ivn hrn csn (sK K)))) := hI
  have hp : (∀ Z, Z < 2 ^ n → mo2_1 Z = nI (mostV (GL K n st) Z)) ∧ (∀ p, p < n → sg2_1 p = nI (strS K p n)) := hp
  obtain ⟨hmo_1, hsg_1⟩ := hp
  have hLg : gL (wrL grg 0 (GL K n st)) (GL K n st) := gL_wr hn7 hs2 hs4
  have hl35 := hLg.2.1
  refine lv_pop hxR hbR dX0_worst_4 rfl ?_
  refine lv_iconst (v := (-1)) hxR hbR dX0_worst_5 (by decide) ?_
  refine lv_istore_n (lv' := [(1, .int (-1)), (0, .ref (ad 11))]) hxR hbR dX0_worst_6 rfl hl (by decide) rfl (fun ls hl => ?_)
  refine lv_iconst (v := 0) hxR hbR dX0_worst_7 (by decide) ?_
  refine lv_istore_n (lv' := [(2, .int 0), (1, .int (-1)), (0, .ref (ad 11))]) hxR hbR dX0_worst_8 rfl hl (by decide) rfl (fun ls hl => ?_)
  refine lv_iconst (v := 0) hxR hbR dX0_worst_9 (by decide) ?_
  refine lv_istore_n (lv' := [(3, .int 0), (2, .int 0), (1, .int (-1)), (0, .ref (ad 11))]) hxR hbR dX0_worst_10 rfl hl (by decide) rfl (fun ls hl => ?_)
  have lp_11 : ∀ (fu : Nat) (p : Nat) (x : Int32) (m : Nat), (p ≤ n) → ((x, m) = wcI (fun p q => clN p q (GL K n st)) K n p) → (m ≤ 35) → n - p < fu → ∀ (H : Heap) (locs : List Loc), wI E AR sR H locs (xW E ad iv ch rd tp rf hd (adn 10) tr (adg 8) dy im ++ (gW E adg (va_up ivg 5 (nI ((GL K n st).length))) (wrL grg 0 (GL K n st)) (wrL pag 0 ((GL K n st).map pairN)) mo2_1 sg2_1 (some (adn 10)) ++ (tW E adn ivn hrn csn (sK K)))) → ∀ ls : Array Slot, lv_has ls 6 [(0, .ref (ad 11)), (1, .int x), (2, .int (nI m)), (3, .int (nI p))] → W pR l eR (rmF 15 0 0) sR mR aR bR tR cR H locs 0 0 QR (F0 mR 11 ls []) := by
    intro fu
    induction fu with
    | zero =>
      intro p x m hp hT hm hfu
      exact absurd hfu (Nat.not_lt_zero _)
    | succ fu ih_11 =>
      intro p x m hp hT hm hfu H locs hI ls hl
      refine lv_iload_n hxR hbR dX0_worst_11 rfl (lv_at hl 3 rfl) ?_
      refine lv_aload_n hxR hbR dX0_worst_12 rfl (lv_at hl 0 rfl) ?_
      refine r_get hxR hbR hts hown hK hI okX0 (ci := 0) rfl 8 (he_l xW_o) 0 (by decide) q263 rfl (v := .ref (adn 10)) rfl dX0_worst_13 ?_
      refine r_get hxR hbR hts hown hK hI okX1 (ci := 1) rfl (14 + (5 + 0)) (he_r (Nat.le_of_ble_eq_true rfl) (Nat.le_of_ble_eq_true rfl) (he_r (Nat.le_of_ble_eq_true rfl) (Nat.le_of_ble_eq_true rfl) tW_o)) 3 (by decide) q144 rfl (v := .int (nI n)) (al hn) dX0_worst_16 ?_
      refine lv_icmp_ge (tgt := 96) hxR hbR dX0_worst_19 (by decide) (fun c_19 => ?_) (fun c_19 => ?_)
      · skip
        have c_19 : n ≤ p := (n_le (a := n) (b := p) (by omega) (by omega)).mp c_19
        refine lv_iload_n hxR hbR dX0_worst_96 rfl (lv_at hl 1 rfl) ?_
        refine lv_iconst (v := (-1)) hxR hbR dX0_worst_97 (by decide) ?_
        refine lv_icmp_ne (tgt := 110) hxR hbR dX0_worst_98 (by decide) (fun c_98 => ?_) (fun c_98 => ?_)
        · skip
          have i_98 : ¬ (x.toInt = (-1)) := by have zz := mt i_eq.mpr c_98; exact zz
          refine lv_iload_n hxR hbR dX0_worst_110 rfl (lv_at hl 1 rfl) ?_
          have hC : wcC (fun p q => clN p q (GL K n st)) K n = 0 := by
            clear hret hI
            rw [show p = n by omega] at hT; unfold wcC; rw [← hT]; first | exact if_pos c_98 | exact if_neg c_98
          have erf : bumpR rf (wcC (fun p q => clN p q (GL K n st)) K n) = rf := by rw [hC]; exact bump_0 _
          have hI := wI_w (ws' := xW E ad iv ch rd tp (bumpR rf (wcC (fun p q => clN p q (GL K n st)) K n)) hd (adn 10) tr (adg 8) dy im ++ (gW E adg (va_up ivg 5 (nI ((GL K n st).length))) (wrL grg 0 (GL K n st)) (wrL pag 0 ((GL K n st).map pairN)) mo2_1 sg2_1 (some (adn 10)) ++ (tW E adn ivn hrn csn (sK K)))) (by rw [erf]; try rfl) hI
          exact hret (mo2_1, sg2_1, nI ((GL K n st).length), wrL grg 0 (GL K n st), wrL pag 0 ((GL K n st).map pairN), some (adn 10)) x _ _ 0 0 _ _ dX0_worst_111 hI (by show x = gd (wcC (fun p q => clN p q (GL K n st)) K n) ((wcI (fun p q => clN p q (GL K n st)) K n n).1) (wcC (fun p q => clN p q (GL K n st)) K n); rw [hC]; first | rfl | (rw [show p = n by omega] at hT; rw [← hT]; rfl)) (Nat.le_of_ble_eq_true rfl) (Nat.le_of_ble_eq_true rfl) rfl
        · skip
          have i_98 : x.toInt = (-1) := by have zz := i_eq.mp c_98; exact zz
          refine lv_aload_n hxR hbR dX0_worst_101 rfl (lv_at hl 0 rfl) ?_
          refine lv_bipush (v := (-5)) hxR hbR dX0_worst_102 (by decide) ?_
          refine kVI (n := 1) (As := [.int (-5)]) (rest := []) (fun w => w ++ (gW E adg (va_up ivg 5 (nI ((GL K n st).length))) (wrL grg 0 (GL K n st)) (wrL pag 0 ((GL K n st).map pairN)) mo2_1 sg2_1 (some (adn 10)) ++ (tW E adn ivn hrn csn (sK K)))) hxR hbR hmlR hts hown hK hA hl.1 (isCtx.suf _) hI (c0_no l E ad iv ch rd tp rf hd (adn 10) tr (adg 8) dy im (-5) 5 (by decide) (by decide)) (lw_V q396 q398 qs2 q81 q399) ⟨rfl, by decide +kernel⟩ 8 0 rfl rfl xW_o rfl (Nat.le_of_ble_eq_true rfl) (Nat.le_of_ble_eq_true rfl) ⟨Nat.le_of_ble_eq_true rfl, Nat.le_of_ble_eq_true rfl⟩ (Nat.le_of_ble_eq_true rfl) dX0_worst_104 (fun r_104 u H locs hp hI hz => ?_)
          have hI : wI E AR sR H locs (xW E ad iv ch rd tp (va_up rf 5 (rf 5 + 1)) hd (adn 10) tr (adg 8) dy im ++ (gW E adg (va_up ivg 5 (nI ((GL K n st).length))) (wrL grg 0 (GL K n st)) (wrL pag 0 ((GL K n st).map pairN)) mo2_1 sg2_1 (some (adn 10)) ++ (tW E adn ivn hrn csn (sK K)))) := hI
          have hp : r_104 = (-5) := hp
          have hr_104 := hp
          subst hr_104
          refine lv_goto (tgt := 111) hxR hbR dX0_worst_107 (by decide) ?_
          have hC : wcC (fun p q => clN p q (GL K n st)) K n = (-5) := by
            clear hret hI
            rw [show p = n by omega] at hT; unfold wcC; rw [← hT]; first | exact if_pos c_98 | exact if_neg c_98
          have erf : bumpR rf (wcC (fun p q => clN p q (GL K n st)) K n) = va_up rf 5 (rf 5 + 1) := by rw [hC]; exact bump_5 _
          have hI := wI_w (ws' := xW E ad iv ch rd tp (bumpR rf (wcC (fun p q => clN p q (GL K n st)) K n)) hd (adn 10) tr (adg 8) dy im ++ (gW E adg (va_up ivg 5 (nI ((GL K n st).length))) (wrL grg 0 (GL K n st)) (wrL pag 0 ((GL K n st).map pairN)) mo2_1 sg2_1 (some (adn 10)) ++ (tW E adn ivn hrn csn (sK K)))) (by rw [erf]; try rfl) hI
          exact hret (mo2_1, sg2_1, nI ((GL K n st).length), wrL grg 0 (GL K n st), wrL pag 0 ((GL K n st).map pairN), some (adn 10)) (-5) _ _ 0 0 _ _ dX0_worst_111 hI (by show (-5) = gd (wcC (fun p q => clN p q (GL K n st)) K n) ((wcI (fun p q => clN p q (GL K n st)) K n n).1) (wcC (fun p q => clN p q (GL K n st)) K n); rw [hC]; first | rfl | (rw [show p = n by omega] at hT; rw [← hT]; rfl)) (Nat.le_of_ble_eq_true rfl) (Nat.le_of_ble_eq_true rfl) rfl
      · skip
        have c_19 : p < n := Nat.lt_of_not_le (fun zz => c_19 ((n_le (a := n) (b := p) (by omega) (by omega)).mpr zz))
        refine lv_iload_n hxR hbR dX0_worst_22 rfl (lv_at hl 3 rfl) ?_
        refine lv_iconst (v := 1) hxR hbR dX0_worst_23 (by decide) ?_
        refine lv_iadd hxR hbR dX0_worst_24 ?_
        refine lv_as (y := nI (p + 1)) (nI_add p 1) ?_
        refine lv_istore (lv' := [(4, .int (nI (p + 1))), (0, .ref (ad 11)), (1, .int x), (2, .int (nI m)), (3, .int (nI p))]) hxR hbR dX0_worst_25 hl (by decide) rfl (fun ls hl => ?_)
        have lp_27 : ∀ (fu : Nat) (q : Nat) (x2 : Int32) (m2 : Nat), (p + 1 ≤ q) → (q ≤ n) → ((x2, m2) = wcJ (fun p q => clN p q (GL K n st)) K p (wcI (fun p q => clN p q (GL K n st)) K n p) q) → (m2 ≤ 35) → n - q < fu → ∀ (H : Heap) (locs : List Loc), wI E AR sR H locs (xW E ad iv ch rd tp rf hd (adn 10) tr (adg 8) dy im ++ (gW E adg (va_up ivg 5 (nI ((GL K n st).length))) (wrL grg 0 (GL K n st)) (wrL pag 0 ((GL K n st).map pairN)) mo2_1 sg2_1 (some (adn 10)) ++ (tW E adn ivn hrn csn (sK K)))) → ∀ ls : Array Slot, lv_has ls 6 [(0, .ref (ad 11)), (1, .int x2), (2, .int (nI m2)), (3, .int (nI p)), (4, .int (nI q))] → W pR l eR (rmF 15 0 0) sR mR aR bR tR cR H locs 0 0 QR (F0 mR 27 ls []) := by
          intro fu
          induction fu with
          | zero =>
            intro q x2 m2 hq hqn hT2 hm2 hfu
            exact absurd hfu (Nat.not_lt_zero _)
          | succ fu ih_27 =>
            intro q x2 m2 hq hqn hT2 hm2 hfu H locs hI ls hl
            refine lv_iload hxR hbR dX0_worst_27 (lv_at hl 4 rfl) ?_
            refine lv_aload_n hxR hbR dX0_worst_29 rfl (lv_at hl 0 rfl) ?_
            refine r_get hxR hbR hts hown hK hI okX0 (ci := 0) rfl 8 (he_l xW_o) 0 (by decide) q263 rfl (v := .ref (adn 10)) rfl dX0_worst_30 ?_
            refine r_get hxR hbR hts hown hK hI okX1 (ci := 1) rfl (14 + (5 + 0)) (he_r (Nat.le_of_ble_eq_true rfl) (Nat.le_of_ble_eq_true rfl) (he_r (Nat.le_of_ble_eq_true rfl) (Nat.le_of_ble_eq_true rfl) tW_o)) 3 (by decide) q144 rfl (v := .int (nI n)) (al hn) dX0_worst_33 ?_
            refine lv_icmp_ge (tgt := 90) hxR hbR dX0_worst_36 (by decide) (fun c_36 => ?_) (fun c_36 => ?_)
            · skip
              have c_36 : n ≤ q := (n_le (a := n) (b := q) (by omega) (by omega)).mp c_36
              refine lv_iinc (v := nI (p + 1)) (lv' := [(3, .int (nI (p + 1))), (0, .ref (ad 11)), (1, .int x2), (2, .int (nI m2)), (4, .int (nI q))]) hxR hbR dX0_worst_90 hl (k := 3) rfl (show nI p + 1 = nI (p + 1) from nI_add _ 1) (by decide) rfl (fun ls hl => ?_)
              refine lv_goto (tgt := 11) hxR hbR dX0_worst_93 (by decide) ?_
              exact ih_11 (p + 1) x2 m2 (by first | omega | with_reducible assumption) (by rw [show q = n by omega] at hT2; exact hT2) (by first | omega | with_reducible assumption) (by omega) _ _ hI _ (lv_sub hl [1, 2, 3, 0] rfl)
            · skip
              have c_36 : q < n := Nat.lt_of_not_le (fun zz => c_36 ((n_le (a := n) (b := q) (by omega) (by omega)).mpr zz))
              refine lv_aload_n hxR hbR dX0_worst_39 rfl (lv_at hl 0 rfl) ?_
              refine lv_iload_n hxR hbR dX0_worst_40 rfl (lv_at hl 3 rfl) ?_
              refine lv_iload hxR hbR dX0_worst_41 (lv_at hl 4 rfl) ?_
              have hI := wI_w app2 hI
              refine kVI (n := 2) (As := [.int (nI p), .int (nI q)]) (rest := []) (fun w => w ++ (tW E adn ivn hrn csn (sK K))) hxR hbR hmlR hts hown hK hA hl.1 (isCtx.suf _) hI (c0_closesOf l E ad iv ch rd tp rf hd (adn 10) tr dy im adg (va_up ivg 5 (nI ((GL K n st).length))) (wrL grg 0 (GL K n st)) (wrL pag 0 ((GL K n st).map pairN)) mo2_1 sg2_1 (some (adn 10)) (GL K n st) p q va_up_s (by first | omega | with_reducible assumption) (by first | omega | with_reducible assumption) (by first | omega | with_reducible assumption)) (lw_V q1325 q1327 qs27 q81 q1328) ⟨rfl, by decide +kernel⟩ 8 0 rfl rfl (he_l xW_o) rfl (Nat.le_of_ble_eq_true rfl) (Nat.le_of_ble_eq_true rfl) ⟨Nat.le_of_ble_eq_true rfl, Nat.le_of_ble_eq_true rfl⟩ (Nat.le_of_ble_eq_true rfl) dX0_worst_43 (fun r_43 u H locs hp hI hz => ?_)
              have hI := wI_w app2.symm hI
              have hI : wI E AR sR H locs (xW E ad iv ch rd tp rf hd (adn 10) tr (adg 8) dy im ++ (gW E adg (va_up ivg 5 (nI ((GL K n st).length))) (wrL grg 0 (GL K n st)) (wrL pag 0 ((GL K n st).map pairN)) mo2_1 sg2_1 (some (adn 10)) ++ (tW E adn ivn hrn csn (sK K)))) := hI
              have hp : r_43 = nI (clN p q (GL K n st)) := hp
              have hr_43 := hp
              subst hr_43
              have hcl9 := clN_le p q (GL K n st)
              refine lv_istore (lv' := [(5, .int (nI (clN p q (GL K n st)))), (0, .ref (ad 11)), (1, .int x2), (2, .int (nI m2)), (3, .int (nI p)), (4, .int (nI q))]) hxR hbR dX0_worst_46 hl (by decide) rfl (fun ls hl => ?_)
              refine lv_aload_n hxR hbR dX0_worst_48 rfl (lv_at hl 1 rfl) ?_
              refine r_get hxR hbR hts hown hK hI okX0 (ci := 0) rfl 8 (he_l xW_o) 0 (by decide) q263 rfl (v := .ref (adn 10)) rfl dX0_worst_49 ?_
              refine lv_iload_n hxR hbR dX0_worst_52 rfl (lv_at hl 4 rfl) ?_
              refine lv_iload hxR hbR dX0_worst_53 (lv_at hl 5 rfl) ?_
              have hI := wI_w app2 hI
              refine kVI (n := 2) (As := [.int (nI p), .int (nI q)]) (rest := []) (fun w => (xW E ad iv ch rd tp rf hd (adn 10) tr (adg 8) dy im ++ (gW E adg (va_up ivg 5 (nI ((GL K n st).length))) (wrL grg 0 (GL K n st)) (wrL pag 0 ((GL K n st).map pairN)) mo2_1 sg2_1 (some (adn 10)))) ++ w) hxR hbR hmlR hts hown hK hA hl.1 (isCtx.pre _) hI (c1_since l E adn ivn hrn csn K p q (by first | omega | with_reducible assumption) (by first | omega | with_reducible assumption)) (lw_V q768 q639 q640 q82 q641) ⟨rfl, by decide +kernel⟩ 0 1 rfl rfl tW_o rfl (Nat.le_of_ble_eq_true rfl) (Nat.le_of_ble_eq_true rfl) ⟨Nat.le_of_ble_eq_true rfl, Nat.le_of_ble_eq_true rfl⟩ (Nat.le_of_ble_eq_true rfl) dX0_worst_55 (fun r_55 u H locs hp hI hz => ?_)
              have hI := wI_w app2.symm hI
              have hI : wI E AR sR H locs (xW E ad iv ch rd tp rf hd (adn 10) tr (adg 8) dy im ++ (gW E adg (va_up ivg 5 (nI ((GL K n st).length))) (wrL grg 0 (GL K n st)) (wrL pag 0 ((GL K n st).map pairN)) mo2_1 sg2_1 (some (adn 10)) ++ (tW E adn ivn hrn csn (sK K)))) := hI
              have hp : r_55 = K p q := hp
              have hr_55 := hp
              subst hr_55
              refine lv_iconst (v := (-1)) hxR hbR dX0_worst_58 (by decide) ?_
              refine lv_icmp_ne (tgt := 84) hxR hbR dX0_worst_59 (by decide) (fun c_59 => ?_) (fun c_59 => ?_)
              · skip
                have i_59 : ¬ ((K p q).toInt = (-1)) := by have zz := mt i_eq.mpr c_59; exact zz
                refine lv_iinc (v := nI (q + 1)) (lv' := [(4, .int (nI (q + 1))), (5, .int (nI (clN p q (GL K n st)))), (0, .ref (ad 11)), (1, .int x2), (2, .int (nI m2)), (3, .int (nI p))]) hxR hbR dX0_worst_84 hl (k := 5) rfl (show nI q + 1 = nI (q + 1) from nI_add _ 1) (by decide) rfl (fun ls hl => ?_)
                refine lv_goto (tgt := 27) hxR hbR dX0_worst_87 (by decide) ?_
                exact ih_27 (q + 1) x2 m2 (by first | omega | with_reducible assumption) (by first | omega | with_reducible assumption) (by first | exact wcJ_y hT2 (by omega) c_59 (Or.inl c_64) | exact wcJ_y hT2 (by omega) c_59 (Or.inr (show m2 < clN p q (GL K n st) by omega)) | exact wcJ_n hT2 (by omega) (fun z => c_59 z.1) | exact wcJ_n hT2 (by omega) (fun z => z.2.elim c_64 (fun (z2 : m2 < clN p q (GL K n st)) => by omega))) (by first | omega | with_reducible assumption) (by omega) _ _ hI _ (lv_sub hl [2, 3, 4, 5, 0] rfl)
              · skip
                have i_59 : (K p q).toInt = (-1) := by have zz := i_eq.mp c_59; exact zz
                refine lv_iload_n hxR hbR dX0_worst_62 rfl (lv_at hl 2 rfl) ?_
                refine lv_iconst (v := (-1)) hxR hbR dX0_worst_63 (by decide) ?_
                refine lv_icmp_eq (tgt := 73) hxR hbR dX0_worst_64 (by decide) (fun c_64 => ?_) (fun c_64 => ?_)
                · skip
                  have i_64 : x2.toInt = (-1) := by have zz := i_eq.mp c_64; exact zz
                  refine lv_bipush (v := 10) hxR hbR dX0_worst_73 (by decide) ?_
                  refine lv_iload_n hxR hbR dX0_worst_75 rfl (lv_at hl 4 rfl) ?_
                  refine lv_imul hxR hbR dX0_worst_76 ?_
                  refine lv_as (y := nI (10 * p)) (pk_mul 10 p) ?_
                  refine lv_iload hxR hbR dX0_worst_77 (lv_at hl 5 rfl) ?_
                  refine lv_iadd hxR hbR dX0_worst_79 ?_
                  refine lv_as (y := nI ((10 * p) + q)) (nI_add (10 * p) q) ?_
                  refine lv_istore_n (lv' := [(1, .int (nI ((10 * p) + q))), (5, .int (nI (clN p q (GL K n st)))), (0, .ref (ad 11)), (2, .int (nI m2)), (3, .int (nI p)), (4, .int (nI q))]) hxR hbR dX0_worst_80 rfl hl (by decide) rfl (fun ls hl => ?_)
                  refine lv_iload hxR hbR dX0_worst_81 (lv_at hl 1 rfl) ?_
                  refine lv_istore_n (lv' := [(2, .int (nI (clN p q (GL K n st)))), (1, .int (nI ((10 * p) + q))), (5, .int (nI (clN p q (GL K n st)))), (0, .ref (ad 11)), (3, .int (nI p)), (4, .int (nI q))]) hxR hbR dX0_worst_83 rfl hl (by decide) rfl (fun ls hl => ?_)
                  refine lv_iinc (v := nI (q + 1)) (lv' := [(4, .int (nI (q + 1))), (2, .int (nI (clN p q (GL K n st)))), (1, .int (nI ((10 * p) + q))), (5, .int (nI (clN p q (GL K n st)))), (0, .ref (ad 11)), (3, .int (nI p))]) hxR hbR dX0_worst_84 hl (k := 5) rfl (show nI q + 1 = nI (q + 1) from nI_add _ 1) (by decide) rfl (fun ls hl => ?_)
                  refine lv_goto (tgt := 27) hxR hbR dX0_worst_87 (by decide) ?_
                  exact ih_27 (q + 1) (nI ((10 * p) + q)) (clN p q (GL K n st)) (by first | omega | with_reducible assumption) (by first | omega | with_reducible assumption) (by first | exact wcJ_y hT2 (by omega) c_59 (Or.inl c_64) | exact wcJ_y hT2 (by omega) c_59 (Or.inr (show m2 < clN p q (GL K n st) by omega)) | exact wcJ_n hT2 (by omega) (fun z => c_59 z.1) | exact wcJ_n hT2 (by omega) (fun z => z.2.elim c_64 (fun (z2 : m2 < clN p q (GL K n st)) => by omega))) (by first | omega | with_reducible assumption) (by omega) _ _ hI _ (lv_sub hl [4, 2, 1, 5, 0] rfl)
                · skip
                  have i_64 : ¬ (x2.toInt = (-1)) := by have zz := mt i_eq.mpr c_64; exact zz
                  refine lv_iload hxR hbR dX0_worst_67 (lv_at hl 0 rfl) ?_
                  refine lv_iload_n hxR hbR dX0_worst_69 rfl (lv_at hl 3 rfl) ?_
                  refine lv_icmp_le (tgt := 84) hxR hbR dX0_worst_70 (by decide) (fun c_70 => ?_) (fun c_70 => ?_)
                  · skip
                    have c_70 : (clN p q (GL K n st)) ≤ m2 := (n_le (a := (clN p q (GL K n st))) (b := m2) (by omega) (by omega)).mp c_70
                    refine lv_iinc (v := nI (q + 1)) (lv' := [(4, .int (nI (q + 1))), (5, .int (nI (clN p q (GL K n st)))), (0, .ref (ad 11)), (1, .int x2), (2, .int (nI m2)), (3, .int (nI p))]) hxR hbR dX0_worst_84 hl (k := 5) rfl (show nI q + 1 = nI (q + 1) from nI_add _ 1) (by decide) rfl (fun ls hl => ?_)
                    refine lv_goto (tgt := 27) hxR hbR dX0_worst_87 (by decide) ?_
                    exact ih_27 (q + 1) x2 m2 (by first | omega | with_reducible assumption) (by first | omega | with_reducible assumption) (by first | exact wcJ_y hT2 (by omega) c_59 (Or.inl c_64) | exact wcJ_y hT2 (by omega) c_59 (Or.inr (show m2 < clN p q (GL K n st) by omega)) | exact wcJ_n hT2 (by omega) (fun z => c_59 z.1) | exact wcJ_n hT2 (by omega) (fun z => z.2.elim c_64 (fun (z2 : m2 < clN p q (GL K n st)) => by omega))) (by first | omega | with_reducible assumption) (by omega) _ _ hI _ (lv_sub hl [2, 3, 4, 5, 0] rfl)
                  · skip
                    have c_70 : m2 < (clN p q (GL K n st)) := Nat.lt_of_not_le (fun zz => c_70 ((n_le (a := (clN p q (GL K n st))) (b := m2) (by omega) (by omega)).mpr zz))
                    refine lv_bipush (v := 10) hxR hbR dX0_worst_73 (by decide) ?_
                    refine lv_iload_n hxR hbR dX0_worst_75 rfl (lv_at hl 4 rfl) ?_
                    refine lv_imul hxR hbR dX0_worst_76 ?_
                    refine lv_as (y := nI (10 * p)) (pk_mul 10 p) ?_
                    refine lv_iload hxR hbR dX0_worst_77 (lv_at hl 5 rfl) ?_
                    refine lv_iadd hxR hbR dX0_worst_79 ?_
                    refine lv_as (y := nI ((10 * p) + q)) (nI_add (10 * p) q) ?_
                    refine lv_istore_n (lv' := [(1, .int (nI ((10 * p) + q))), (5, .int (nI (clN p q (GL K n st)))), (0, .ref (ad 11)), (2, .int (nI m2)), (3, .int (nI p)), (4, .int (nI q))]) hxR hbR dX0_worst_80 rfl hl (by decide) rfl (fun ls hl => ?_)
                    refine lv_iload hxR hbR dX0_worst_81 (lv_at hl 1 rfl) ?_
                    refine lv_istore_n (lv' := [(2, .int (nI (clN p q (GL K n st)))), (1, .int (nI ((10 * p) + q))), (5, .int (nI (clN p q (GL K n st)))), (0, .ref (ad 11)), (3, .int (nI p)), (4, .int (nI q))]) hxR hbR dX0_worst_83 rfl hl (by decide) rfl (fun ls hl => ?_)
                    refine lv_iinc (v := nI (q + 1)) (lv' := [(4, .int (nI (q + 1))), (2, .int (nI (clN p q (GL K n st)))), (1, .int (nI ((10 * p) + q))), (5, .int (nI (clN p q (GL K n st)))), (0, .ref (ad 11)), (3, .int (nI p))]) hxR hbR dX0_worst_84 hl (k := 5) rfl (show nI q + 1 = nI (q + 1) from nI_add _ 1) (by decide) rfl (fun ls hl => ?_)
                    refine lv_goto (tgt := 27) hxR hbR dX0_worst_87 (by decide) ?_
                    exact ih_27 (q + 1) (nI ((10 * p) + q)) (clN p q (GL K n st)) (by first | omega | with_reducible assumption) (by first | omega | with_reducible assumption) (by first | exact wcJ_y hT2 (by omega) c_59 (Or.inl c_64) | exact wcJ_y hT2 (by omega) c_59 (Or.inr (show m2 < clN p q (GL K n st) by omega)) | exact wcJ_n hT2 (by omega) (fun z => c_59 z.1) | exact wcJ_n hT2 (by omega) (fun z => z.2.elim c_64 (fun (z2 : m2 < clN p q (GL K n st)) => by omega))) (by first | omega | with_reducible assumption) (by omega) _ _ hI _ (lv_sub hl [4, 2, 1, 5, 0] rfl)
        exact lp_27 _ (p + 1) x m (by first | omega | with_reducible assumption) (by first | omega | with_reducible assumption) (by rw [wcJ_0 _ _ _ _ _ (Nat.le_refl _)]; exact hT) (by first | omega | with_reducible assumption) (Nat.lt_succ_self _) _ _ hI _ (lv_sub hl [1, 2, 3, 4, 0] rfl)
  exact lp_11 _ 0 (-1) 0 (by first | omega | with_reducible assumption) rfl (by first | omega | with_reducible assumption) (Nat.lt_succ_self _) _ _ hI _ (lv_sub hl [3, 2, 1, 0] rfl)

theorem c0_hire (l : Launch) (E : En) (ad : Nat → Nat) (iv : Nat → Int32) (ch : Nat → Int32) (rd : Nat → Int32) (tp : Nat → Int32) (rf : Nat → Int32) (hd : Nat → Option Nat) (tr : Nat) (dy : Nat) (im : Option Nat) (adg : Nat → Nat) (ivg : Nat → Int32) (grg : Nat → Int32) (pag : Nat → Int32) (mog : Nat → Int32) (sgg : Nat → Int32) (tng : Option Nat) (adn : Nat → Nat) (ivn : Nat → Int32) (hrn : Nat → Int32) (csn : Nat → Int32) (K : Nat → Nat → Int32) (n st : Nat)  (hn : ivn 3 = nI n) (hst : ivn 4 = nI st) (hn7 : n ≤ 7) (hs2 : 2 ≤ st) (hs4 : st ≤ 4) (hsym : kSym K n) : CtI l E yX0_hire cX0_hire 6 .int 15 0 0 [.ref (ad 11)] (xW E ad iv ch rd tp rf hd (adn 10) tr (adg 8) dy im ++ (gW E adg ivg grg pag mog sgg tng ++ (tW E adn ivn hrn csn (sK K)))) (fun (r : Int32) (u : (Nat → Int32) × (Nat → Int32) × Int32 × (Nat → Int32) × (Nat → Int32) × (Option Nat)) => r = nI (hrF (GL K n st) K n st (2 ^ n) - mostV (GL K n st) (2 ^ n - 1))) (fun (u : (Nat → Int32) × (Nat → Int32) × Int32 × (Nat → Int32) × (Nat → Int32) × (Option Nat)) => xW E ad iv ch rd tp rf hd (adn 10) tr (adg 8) dy im ++ (gW E adg (va_up ivg 5 u.2.2.1) u.2.2.2.1 u.2.2.2.2.1 u.1 u.2.1 u.2.2.2.2.2 ++ (tW E adn ivn hrn csn (sK K)))) := by
  have h28 : 2 ^ n ≤ 2 ^ 7 := Nat.pow_le_pow_right (by decide) hn7
  refine CtI.of (by decide +kernel) (Nat.le_of_ble_eq_true rfl) ?_
  intro pR eR sR mR aR bR tR cR AR ls QR hxR hbR hmlR hts hown hlk hnm hA hK hI hl hret
  have hl : lv_has ls 6 [(0, .ref (ad 11))] := hl
  refine lv_aload_n hxR hbR dX0_hire_0 rfl (lv_at hl 0 rfl) ?_
  refine kVT (n := 0) (As := []) (rest := []) (fun w => w) hxR hbR hmlR hts hown hK hA hl.1 isCtx.id hI (c0_groups l E ad iv ch rd tp rf hd tr dy im adg ivg grg pag mog sgg tng adn ivn hrn csn K n st hn hst (by first | omega | with_reducible assumption) (by first | omega | with_reducible assumption) (by first | omega | with_reducible assumption) (by first | omega | with_reducible assumption)) (lw_V q626 q628 qs5 q81 q629) ⟨rfl, by decide +kernel⟩ 8 0 rfl rfl (he_l xW_o) rfl (Nat.le_of_ble_eq_true rfl) (Nat.le_of_ble_eq_true rfl) ⟨Nat.le_of_ble_eq_true rfl, Nat.le_of_ble_eq_true rfl⟩ (Nat.le_of_ble_eq_true rfl) dX0_hire_1 (fun u H locs hp hI hz => ?_)
  obtain ⟨mo2_1, sg2_1⟩ := u
  have hI : wI E AR sR H locs (xW E ad iv ch rd tp rf hd (adn 10) tr (adg 8) dy im ++ (gW E adg (va_up ivg 5 (nI ((GL K n st).length))) (wrL grg 0 (GL K n st)) (wrL pag 0 ((GL K n st).map pairN)) mo2_1 sg2_1 (some (adn 10)) ++ (tW E adn ivn hrn csn (sK K)))) := hI
  have hp : (∀ Z, Z < 2 ^ n → mo2_1 Z = nI (mostV (GL K n st) Z)) ∧ (∀ p, p < n → sg2_1 p = nI (strS K p n)) := hp
  obtain ⟨hmo_1, hsg_1⟩ := hp
  have hLg : gL (wrL grg 0 (GL K n st)) (GL K n st) := gL_wr hn7 hs2 hs4
  have hl35 := hLg.2.1
  have hz9 := hLg.nz
  have hm9 := mostV_le hz9 (2 ^ n - 1)
  have h1n := Nat.one_le_two_pow (n := n)
  refine lv_pop hxR hbR dX0_hire_4 rfl ?_
  refine lv_aload_n hxR hbR dX0_hire_5 rfl (lv_at hl 0 rfl) ?_
  refine r_get hxR hbR hts hown hK hI okX0 (ci := 0) rfl 8 (he_l xW_o) 0 (by decide) q263 rfl (v := .ref (adn 10)) rfl dX0_hire_6 ?_
  have hI := wI_w app2 hI
  refine kVI (n := 0) (As := []) (rest := []) (fun w => (xW E ad iv ch rd tp rf hd (adn 10) tr (adg 8) dy im ++ (gW E adg (va_up ivg 5 (nI ((GL K n st).length))) (wrL grg 0 (GL K n st)) (wrL pag 0 ((GL K n st).map pairN)) mo2_1 sg2_1 (some (adn 10)))) ++ w) hxR hbR hmlR hts hown hK hA hl.1 (isCtx.pre _) hI (c1_all l E adn ivn hrn csn K n hn (by first | omega | with_reducible assumption)) (lw_V q669 q643 q644 q82 q645) ⟨rfl, by decide +kernel⟩ 0 1 rfl rfl tW_o rfl (Nat.le_of_ble_eq_true rfl) (Nat.le_of_ble_eq_true rfl) ⟨Nat.le_of_ble_eq_true rfl, Nat.le_of_ble_eq_true rfl⟩ (Nat.le_of_ble_eq_true rfl) dX0_hire_9 (fun r_9 u H locs hp hI hz => ?_)
  have hI := wI_w app2.symm hI
  have hI : wI E AR sR H locs (xW E ad iv ch rd tp rf hd (adn 10) tr (adg 8) dy im ++ (gW E adg (va_up ivg 5 (nI ((GL K n st).length))) (wrL grg 0 (GL K n st)) (wrL pag 0 ((GL K n st).map pairN)) mo2_1 sg2_1 (some (adn 10)) ++ (tW E adn ivn hrn csn (sK K)))) := hI
  have hp : r_9 = nI (2 ^ n - 1) := hp
  have hr_9 := hp
  subst hr_9
  refine lv_istore_n (lv' := [(1, .int (nI (2 ^ n - 1))), (0, .ref (ad 11))]) hxR hbR dX0_hire_12 rfl hl (by decide) rfl (fun ls hl => ?_)
  refine lv_aload_n hxR hbR dX0_hire_13 rfl (lv_at hl 1 rfl) ?_
  refine r_get hxR hbR hts hown hK hI okX0 (ci := 0) rfl 8 (he_l xW_o) 3 (by decide) q267 rfl (v := .ref (adg 8)) rfl dX0_hire_14 ?_
  refine lv_iload_n hxR hbR dX0_hire_17 rfl (lv_at hl 0 rfl) ?_
  refine kVI (n := 1) (As := [.int (nI (2 ^ n - 1))]) (rest := []) (fun w => (xW E ad iv ch rd tp rf hd (adn 10) tr (adg 8) dy im) ++ (w ++ (tW E adn ivn hrn csn (sK K)))) hxR hbR hmlR hts hown hK hA hl.1 (isCtx.mk _ _) hI (c2_most l E adg (va_up ivg 5 (nI ((GL K n st).length))) (wrL grg 0 (GL K n st)) (wrL pag 0 ((GL K n st).map pairN)) mo2_1 sg2_1 (some (adn 10)) (GL K n st) n (2 ^ n - 1) (by first | omega | with_reducible assumption) hmo_1 (by omega)) (lw_V q1194 q1195 q1196 q83 q1197) ⟨rfl, by decide +kernel⟩ 0 2 rfl rfl gW_o rfl (Nat.le_of_ble_eq_true rfl) (Nat.le_of_ble_eq_true rfl) ⟨Nat.le_of_ble_eq_true rfl, Nat.le_of_ble_eq_true rfl⟩ (Nat.le_of_ble_eq_true rfl) dX0_hire_18 (fun r_18 u H locs hp hI hz => ?_)
  have hI : wI E AR sR H locs (xW E ad iv ch rd tp rf hd (adn 10) tr (adg 8) dy im ++ (gW E adg (va_up ivg 5 (nI ((GL K n st).length))) (wrL grg 0 (GL K n st)) (wrL pag 0 ((GL K n st).map pairN)) mo2_1 sg2_1 (some (adn 10)) ++ (tW E adn ivn hrn csn (sK K)))) := hI
  have hp : r_18 = nI (mostV (GL K n st) (2 ^ n - 1)) := hp
  have hr_18 := hp
  subst hr_18
  refine lv_istore_n (lv' := [(2, .int (nI (mostV (GL K n st) (2 ^ n - 1)))), (1, .int (nI (2 ^ n - 1))), (0, .ref (ad 11))]) hxR hbR dX0_hire_21 rfl hl (by decide) rfl (fun ls hl => ?_)
  refine lv_iconst (v := 0) hxR hbR dX0_hire_22 (by decide) ?_
  refine lv_istore_n (lv' := [(3, .int 0), (2, .int (nI (mostV (GL K n st) (2 ^ n - 1)))), (1, .int (nI (2 ^ n - 1))), (0, .ref (ad 11))]) hxR hbR dX0_hire_23 rfl hl (by decide) rfl (fun ls hl => ?_)
  refine lv_iconst (v := 1) hxR hbR dX0_hire_24 (by decide) ?_
  refine lv_istore (lv' := [(4, .int 1), (3, .int 0), (2, .int (nI (mostV (GL K n st) (2 ^ n - 1)))), (1, .int (nI (2 ^ n - 1))), (0, .ref (ad 11))]) hxR hbR dX0_hire_25 hl (by decide) rfl (fun ls hl => ?_)
  have lp_27 : ∀ (fu : Nat) (k : Nat) (b : Nat), (1 ≤ k) → (k ≤ 2 ^ n) → (b = hrF (GL K n st) K n st k) → (b ≤ 2 ^ n + k) → 2 ^ n - k < fu → ∀ (H : Heap) (locs : List Loc), wI E AR sR H locs (xW E ad iv ch rd tp rf hd (adn 10) tr (adg 8) dy im ++ (gW E adg (va_up ivg 5 (nI ((GL K n st).length))) (wrL grg 0 (GL K n st)) (wrL pag 0 ((GL K n st).map pairN)) mo2_1 sg2_1 (some (adn 10)) ++ (tW E adn ivn hrn csn (sK K)))) → ∀ ls : Array Slot, lv_has ls 6 [(0, .ref (ad 11)), (1, .int (nI (2 ^ n - 1))), (2, .int (nI (mostV (GL K n st) (2 ^ n - 1)))), (3, .int (nI b)), (4, .int (nI k))] → W pR l eR (rmF 15 0 0) sR mR aR bR tR cR H locs 0 0 QR (F0 mR 27 ls []) := by
    intro fu
    induction fu with
    | zero =>
      intro k b hk1 hk hb hb9 hfu
      exact absurd hfu (Nat.not_lt_zero _)
    | succ fu ih_27 =>
      intro k b hk1 hk hb hb9 hfu H locs hI ls hl
      refine lv_iload hxR hbR dX0_hire_27 (lv_at hl 4 rfl) ?_
      refine lv_iload_n hxR hbR dX0_hire_29 rfl (lv_at hl 1 rfl) ?_
      refine lv_icmp_gt (tgt := 101) hxR hbR dX0_hire_30 (by decide) (fun c_30 => ?_) (fun c_30 => ?_)
      · skip
        have c_30 : (2 ^ n - 1) < k := (n_lt (a := (2 ^ n - 1)) (b := k) (by omega) (by omega)).mp c_30
        refine lv_iconst (v := 0) hxR hbR dX0_hire_101 (by decide) ?_
        refine lv_iload_n hxR hbR dX0_hire_102 rfl (lv_at hl 3 rfl) ?_
        refine lv_iload_n hxR hbR dX0_hire_103 rfl (lv_at hl 2 rfl) ?_
        refine lv_isub hxR hbR dX0_hire_104 ?_
        refine va_mmax hxR hbR (by rw [hmlR]; exact hl.1.symm) hown (hts _ q1315) (hts _ q667) (hts _ q106) (hts _ q668) (Nat.le_of_ble_eq_true rfl) (Nat.le_of_ble_eq_true rfl) (by omega) (by omega) dX0_hire_105 ?_
        exact hret (mo2_1, sg2_1, nI ((GL K n st).length), wrL grg 0 (GL K n st), wrL pag 0 ((GL K n st).map pairN), some (adn 10)) (if 0 < (nI b) - (nI (mostV (GL K n st) (2 ^ n - 1))) then (nI b) - (nI (mostV (GL K n st) (2 ^ n - 1))) else 0) _ _ _ _ _ _ dX0_hire_108 hI (by show (if 0 < (nI b) - (nI (mostV (GL K n st) (2 ^ n - 1))) then (nI b) - (nI (mostV (GL K n st) (2 ^ n - 1))) else 0) = nI (hrF (GL K n st) K n st (2 ^ n) - mostV (GL K n st) (2 ^ n - 1)); rw [show k = 2 ^ n by omega] at hb; rw [← hb]; exact mx_sub (by omega) (by omega)) (Nat.le_of_ble_eq_true rfl) (Nat.le_of_ble_eq_true rfl) rfl
      · skip
        have c_30 : k ≤ (2 ^ n - 1) := Nat.le_of_not_lt (fun zz => c_30 ((n_lt (a := (2 ^ n - 1)) (b := k) (by omega) (by omega)).mpr zz))
        refine lv_iload hxR hbR dX0_hire_33 (lv_at hl 4 rfl) ?_
        refine kSI (n := 1) (As := [.int (nI k)]) (rest := []) (fun w => w ++ (xW E ad iv ch rd tp rf hd (adn 10) tr (adg 8) dy im ++ (gW E adg (va_up ivg 5 (nI ((GL K n st).length))) (wrL grg 0 (GL K n st)) (wrL pag 0 ((GL K n st).map pairN)) mo2_1 sg2_1 (some (adn 10)) ++ (tW E adn ivn hrn csn (sK K))))) hxR hbR hmlR hts hown hK hA hl.1 (isCtx.suf _) hI (c10_bitCount l E  k (by omega)) (lw_S q1159 q651 q105 q652) (by decide +kernel) rfl (Nat.le_of_ble_eq_true rfl) (Nat.le_of_ble_eq_true rfl) ⟨Nat.le_of_ble_eq_true rfl, Nat.le_of_ble_eq_true rfl⟩ (Nat.le_of_ble_eq_true rfl) dX0_hire_35 (fun r_35 u H locs hp hI hz => ?_)
        have hI : wI E AR sR H locs (xW E ad iv ch rd tp rf hd (adn 10) tr (adg 8) dy im ++ (gW E adg (va_up ivg 5 (nI ((GL K n st).length))) (wrL grg 0 (GL K n st)) (wrL pag 0 ((GL K n st).map pairN)) mo2_1 sg2_1 (some (adn 10)) ++ (tW E adn ivn hrn csn (sK K)))) := hI
        have hp : r_35 = nI (bitsN k 8) := hp
        have hr_35 := hp
        subst hr_35
        have hbl := bitsN_le k 8
        refine lv_aload_n hxR hbR dX0_hire_38 rfl (lv_at hl 0 rfl) ?_
        refine r_get hxR hbR hts hown hK hI okX0 (ci := 0) rfl 8 (he_l xW_o) 0 (by decide) q263 rfl (v := .ref (adn 10)) rfl dX0_hire_39 ?_
        refine r_get hxR hbR hts hown hK hI okX1 (ci := 1) rfl (14 + (5 + 0)) (he_r (Nat.le_of_ble_eq_true rfl) (Nat.le_of_ble_eq_true rfl) (he_r (Nat.le_of_ble_eq_true rfl) (Nat.le_of_ble_eq_true rfl) tW_o)) 4 (by decide) q148 rfl (v := .int (nI st)) (al hst) dX0_hire_42 ?_
        refine lv_iconst (v := 1) hxR hbR dX0_hire_45 (by decide) ?_
        refine lv_isub hxR hbR dX0_hire_46 ?_
        refine lv_as (y := nI (st - 1)) (pk_sub (a := st) (b := 1) (by omega)) ?_
        refine lv_icmp_ne (tgt := 63) hxR hbR dX0_hire_47 (by decide) (fun c_47 => ?_) (fun c_47 => ?_)
        · skip
          have c_47 : ¬ (bitsN k 8) = (st - 1) := fun zz => c_47 ((n_eq (a := (bitsN k 8)) (b := (st - 1)) (by omega) (by omega)).mpr zz)
          refine lv_iconst (v := 0) hxR hbR dX0_hire_63 (by decide) ?_
          refine lv_istore (lv' := [(5, .int 0), (0, .ref (ad 11)), (1, .int (nI (2 ^ n - 1))), (2, .int (nI (mostV (GL K n st) (2 ^ n - 1)))), (3, .int (nI b)), (4, .int (nI k))]) hxR hbR dX0_hire_64 hl (by decide) rfl (fun ls hl => ?_)
          refine lv_iload hxR hbR dX0_hire_66 (lv_at hl 0 rfl) ?_
          refine lv_if_eq (tgt := 93) hxR hbR dX0_hire_68 (by decide) (fun _ => ?_) (fun c => absurd c (by decide))
          refine lv_iload_n hxR hbR dX0_hire_93 rfl (lv_at hl 4 rfl) ?_
          refine lv_istore_n (lv' := [(3, .int (nI b)), (5, .int 0), (0, .ref (ad 11)), (1, .int (nI (2 ^ n - 1))), (2, .int (nI (mostV (GL K n st) (2 ^ n - 1)))), (4, .int (nI k))]) hxR hbR dX0_hire_94 rfl hl (by decide) rfl (fun ls hl => ?_)
          refine lv_iinc (v := nI (k + 1)) (lv' := [(4, .int (nI (k + 1))), (3, .int (nI b)), (5, .int 0), (0, .ref (ad 11)), (1, .int (nI (2 ^ n - 1))), (2, .int (nI (mostV (GL K n st) (2 ^ n - 1))))]) hxR hbR dX0_hire_95 hl (k := 5) rfl (show nI k + 1 = nI (k + 1) from nI_add _ 1) (by decide) rfl (fun ls hl => ?_)
          refine lv_goto (tgt := 27) hxR hbR dX0_hire_98 (by decide) ?_
          exact ih_27 (k + 1) b (by first | omega | with_reducible assumption) (by first | omega | with_reducible assumption) (by rw [hb]; first | exact (hrF_y hk1 c_47 c_53).symm | exact (hrF_n (fun z => c_47 z.1)).symm | exact (hrF_n (fun z => by rw [c_53] at z; cases z.2)).symm) (by first | omega | with_reducible assumption) (by omega) _ _ hI _ (lv_sub hl [3, 4, 5, 1, 0] rfl)
        · skip
          have c_47 : (bitsN k 8) = (st - 1) := (n_eq (a := (bitsN k 8)) (b := (st - 1)) (by omega) (by omega)).mp c_47
          refine lv_aload_n hxR hbR dX0_hire_50 rfl (lv_at hl 0 rfl) ?_
          refine lv_iload hxR hbR dX0_hire_51 (lv_at hl 4 rfl) ?_
          have hI : wI E AR sR _ _ (xW E ad iv ch rd tp rf hd (adn 10) tr (adg 8) dy im ++ (tW E adn ivn hrn csn (sK K) ++ (gW E adg (va_up ivg 5 (nI ((GL K n st).length))) (wrL grg 0 (GL K n st)) (wrL pag 0 ((GL K n st).map pairN)) mo2_1 sg2_1 (some (adn 10))))) := wI_pick ([xW E ad iv ch rd tp rf hd (adn 10) tr (adg 8) dy im, gW E adg (va_up ivg 5 (nI ((GL K n st).length))) (wrL grg 0 (GL K n st)) (wrL pag 0 ((GL K n st).map pairN)) mo2_1 sg2_1 (some (adn 10)), tW E adn ivn hrn csn (sK K)]) [0, 2, 1] 3 rfl (by decide) hI
          have hI := wI_w app2 hI
          refine kVI (n := 1) (As := [.int (nI k)]) (rest := []) (fun w => w ++ (gW E adg (va_up ivg 5 (nI ((GL K n st).length))) (wrL grg 0 (GL K n st)) (wrL pag 0 ((GL K n st).map pairN)) mo2_1 sg2_1 (some (adn 10)))) hxR hbR hmlR hts hown hK hA hl.1 (isCtx.suf _) hI (c0_areStrangers l E ad iv ch rd tp rf hd tr (adg 8) dy im adn ivn hrn csn K n k hn (by first | omega | with_reducible assumption) (by first | omega | with_reducible assumption)) (lw_V q1311 q1313 qs26 q81 q1314) ⟨rfl, by decide +kernel⟩ 8 0 rfl rfl (he_l xW_o) rfl (Nat.le_of_ble_eq_true rfl) (Nat.le_of_ble_eq_true rfl) ⟨Nat.le_of_ble_eq_true rfl, Nat.le_of_ble_eq_true rfl⟩ (Nat.le_of_ble_eq_true rfl) dX0_hire_53 (fun r_53 u H locs hp hI hz => ?_)
          have hI := wI_w app2.symm hI
          have hI : wI E AR sR H locs (xW E ad iv ch rd tp rf hd (adn 10) tr (adg 8) dy im ++ (tW E adn ivn hrn csn (sK K) ++ (gW E adg (va_up ivg 5 (nI ((GL K n st).length))) (wrL grg 0 (GL K n st)) (wrL pag 0 ((GL K n st).map pairN)) mo2_1 sg2_1 (some (adn 10))))) := hI
          have hI : wI E AR sR _ _ (xW E ad iv ch rd tp rf hd (adn 10) tr (adg 8) dy im ++ (gW E adg (va_up ivg 5 (nI ((GL K n st).length))) (wrL grg 0 (GL K n st)) (wrL pag 0 ((GL K n st).map pairN)) mo2_1 sg2_1 (some (adn 10)) ++ (tW E adn ivn hrn csn (sK K)))) := wI_pick ([xW E ad iv ch rd tp rf hd (adn 10) tr (adg 8) dy im, tW E adn ivn hrn csn (sK K), gW E adg (va_up ivg 5 (nI ((GL K n st).length))) (wrL grg 0 (GL K n st)) (wrL pag 0 ((GL K n st).map pairN)) mo2_1 sg2_1 (some (adn 10))]) [0, 2, 1] 3 rfl (by decide) hI
          have hp : r_53 = b2i (asB K n k n) := hp
          have hr_53 := hp
          rcases b2i_cases hr_53 with ⟨c_53, rfl⟩ | ⟨c_53, rfl⟩
          · skip
            have c_53 : asB K n k n = true := c_53
            refine lv_if_eq (tgt := 63) hxR hbR dX0_hire_56 (by decide) (fun c => absurd c (by decide)) (fun _ => ?_)
            refine lv_iconst (v := 1) hxR hbR dX0_hire_59 (by decide) ?_
            refine lv_goto (tgt := 64) hxR hbR dX0_hire_60 (by decide) ?_
            refine lv_istore (lv' := [(5, .int 1), (0, .ref (ad 11)), (1, .int (nI (2 ^ n - 1))), (2, .int (nI (mostV (GL K n st) (2 ^ n - 1)))), (3, .int (nI b)), (4, .int (nI k))]) hxR hbR dX0_hire_64 hl (by decide) rfl (fun ls hl => ?_)
            refine lv_iload hxR hbR dX0_hire_66 (lv_at hl 0 rfl) ?_
            refine lv_if_eq (tgt := 93) hxR hbR dX0_hire_68 (by decide) (fun c => absurd c (by decide)) (fun _ => ?_)
            refine lv_iload_n hxR hbR dX0_hire_71 rfl (lv_at hl 4 rfl) ?_
            refine lv_iconst (v := 1) hxR hbR dX0_hire_72 (by decide) ?_
            refine lv_aload_n hxR hbR dX0_hire_73 rfl (lv_at hl 1 rfl) ?_
            refine r_get hxR hbR hts hown hK hI okX0 (ci := 0) rfl 8 (he_l xW_o) 3 (by decide) q267 rfl (v := .ref (adg 8)) rfl dX0_hire_74 ?_
            refine lv_iload_n hxR hbR dX0_hire_77 rfl (lv_at hl 2 rfl) ?_
            refine lv_iload hxR hbR dX0_hire_78 (lv_at hl 5 rfl) ?_
            refine lv_iconst (v := (-1)) hxR hbR dX0_hire_80 (by decide) ?_
            refine lv_ixor hxR hbR dX0_hire_81 ?_
            refine lv_iand hxR hbR dX0_hire_82 ?_
            refine lv_as (y := nI (nd (2 ^ n - 1) k)) (nb_nd (2 ^ n - 1) k) ?_
            refine kVI (n := 1) (As := [.int (nI (nd (2 ^ n - 1) k))]) (rest := [.int 1, .int (nI b)]) (fun w => (xW E ad iv ch rd tp rf hd (adn 10) tr (adg 8) dy im) ++ (w ++ (tW E adn ivn hrn csn (sK K)))) hxR hbR hmlR hts hown hK hA hl.1 (isCtx.mk _ _) hI (c2_most l E adg (va_up ivg 5 (nI ((GL K n st).length))) (wrL grg 0 (GL K n st)) (wrL pag 0 ((GL K n st).map pairN)) mo2_1 sg2_1 (some (adn 10)) (GL K n st) n (nd (2 ^ n - 1) k) (by first | omega | with_reducible assumption) hmo_1 (by have := nd_le (2 ^ n - 1) k; omega)) (lw_V q1194 q1195 q1196 q83 q1197) ⟨rfl, by decide +kernel⟩ 0 2 rfl rfl gW_o rfl (Nat.le_of_ble_eq_true rfl) (Nat.le_of_ble_eq_true rfl) ⟨Nat.le_of_ble_eq_true rfl, Nat.le_of_ble_eq_true rfl⟩ (Nat.le_of_ble_eq_true rfl) dX0_hire_83 (fun r_83 u H locs hp hI hz => ?_)
            have hI : wI E AR sR H locs (xW E ad iv ch rd tp rf hd (adn 10) tr (adg 8) dy im ++ (gW E adg (va_up ivg 5 (nI ((GL K n st).length))) (wrL grg 0 (GL K n st)) (wrL pag 0 ((GL K n st).map pairN)) mo2_1 sg2_1 (some (adn 10)) ++ (tW E adn ivn hrn csn (sK K)))) := hI
            have hp : r_83 = nI (mostV (GL K n st) (nd (2 ^ n - 1) k)) := hp
            have hr_83 := hp
            subst hr_83
            have hn9 := nd_le (2 ^ n - 1) k
            have hm8 := mostV_le hz9 (nd (2 ^ n - 1) k)
            refine lv_iadd hxR hbR dX0_hire_86 ?_
            refine lv_as (y := nI (1 + (mostV (GL K n st) (nd (2 ^ n - 1) k)))) (nI_add 1 (mostV (GL K n st) (nd (2 ^ n - 1) k))) ?_
            refine va_mmax hxR hbR (by rw [hmlR]; exact hl.1.symm) hown (hts _ q1315) (hts _ q667) (hts _ q106) (hts _ q668) (Nat.le_of_ble_eq_true rfl) (Nat.le_of_ble_eq_true rfl) (by omega) (by omega) dX0_hire_87 ?_
            refine lv_as (y := nI (max b (1 + (mostV (GL K n st) (nd (2 ^ n - 1) k))))) (mx_n (by omega) (by omega)) ?_
            refine lv_goto (tgt := 94) hxR hbR dX0_hire_90 (by decide) ?_
            refine lv_istore_n (lv' := [(3, .int (nI (max b (1 + (mostV (GL K n st) (nd (2 ^ n - 1) k)))))), (5, .int 1), (0, .ref (ad 11)), (1, .int (nI (2 ^ n - 1))), (2, .int (nI (mostV (GL K n st) (2 ^ n - 1)))), (4, .int (nI k))]) hxR hbR dX0_hire_94 rfl hl (by decide) rfl (fun ls hl => ?_)
            refine lv_iinc (v := nI (k + 1)) (lv' := [(4, .int (nI (k + 1))), (3, .int (nI (max b (1 + (mostV (GL K n st) (nd (2 ^ n - 1) k)))))), (5, .int 1), (0, .ref (ad 11)), (1, .int (nI (2 ^ n - 1))), (2, .int (nI (mostV (GL K n st) (2 ^ n - 1))))]) hxR hbR dX0_hire_95 hl (k := 5) rfl (show nI k + 1 = nI (k + 1) from nI_add _ 1) (by decide) rfl (fun ls hl => ?_)
            refine lv_goto (tgt := 27) hxR hbR dX0_hire_98 (by decide) ?_
            exact ih_27 (k + 1) (max b (1 + (mostV (GL K n st) (nd (2 ^ n - 1) k)))) (by first | omega | with_reducible assumption) (by first | omega | with_reducible assumption) (by rw [hb]; first | exact (hrF_y hk1 c_47 c_53).symm | exact (hrF_n (fun z => c_47 z.1)).symm | exact (hrF_n (fun z => by rw [c_53] at z; cases z.2)).symm) (by first | omega | with_reducible assumption) (by omega) _ _ hI _ (lv_sub hl [3, 4, 5, 1, 0] rfl)
          · skip
            have c_53 : asB K n k n = false := c_53
            refine lv_if_eq (tgt := 63) hxR hbR dX0_hire_56 (by decide) (fun _ => ?_) (fun c => absurd c (by decide))
            refine lv_iconst (v := 0) hxR hbR dX0_hire_63 (by decide) ?_
            refine lv_istore (lv' := [(5, .int 0), (0, .ref (ad 11)), (1, .int (nI (2 ^ n - 1))), (2, .int (nI (mostV (GL K n st) (2 ^ n - 1)))), (3, .int (nI b)), (4, .int (nI k))]) hxR hbR dX0_hire_64 hl (by decide) rfl (fun ls hl => ?_)
            refine lv_iload hxR hbR dX0_hire_66 (lv_at hl 0 rfl) ?_
            refine lv_if_eq (tgt := 93) hxR hbR dX0_hire_68 (by decide) (fun _ => ?_) (fun c => absurd c (by decide))
            refine lv_iload_n hxR hbR dX0_hire_93 rfl (lv_at hl 4 rfl) ?_
            refine lv_istore_n (lv' := [(3, .int (nI b)), (5, .int 0), (0, .ref (ad 11)), (1, .int (nI (2 ^ n - 1))), (2, .int (nI (mostV (GL K n st) (2 ^ n - 1)))), (4, .int (nI k))]) hxR hbR dX0_hire_94 rfl hl (by decide) rfl (fun ls hl => ?_)
            refine lv_iinc (v := nI (k + 1)) (lv' := [(4, .int (nI (k + 1))), (3, .int (nI b)), (5, .int 0), (0, .ref (ad 11)), (1, .int (nI (2 ^ n - 1))), (2, .int (nI (mostV (GL K n st) (2 ^ n - 1))))]) hxR hbR dX0_hire_95 hl (k := 5) rfl (show nI k + 1 = nI (k + 1) from nI_add _ 1) (by decide) rfl (fun ls hl => ?_)
            refine lv_goto (tgt := 27) hxR hbR dX0_hire_98 (by decide) ?_
            exact ih_27 (k + 1) b (by first | omega | with_reducible assumption) (by first | omega | with_reducible assumption) (by rw [hb]; first | exact (hrF_y hk1 c_47 c_53).symm | exact (hrF_n (fun z => c_47 z.1)).symm | exact (hrF_n (fun z => by rw [c_53] at z; cases z.2)).symm) (by first | omega | with_reducible assumption) (by omega) _ _ hI _ (lv_sub hl [3, 4, 5, 1, 0] rfl)
  exact lp_27 _ 1 0 (by first | omega | with_reducible assumption) (Nat.one_le_two_pow) (hrF_1 _ _ _ _).symm (by first | omega | with_reducible assumption) (Nat.lt_succ_self _) _ _ hI _ (lv_sub hl [4, 3, 2, 1, 0] rfl)
