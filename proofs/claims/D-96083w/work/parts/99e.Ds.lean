theorem c0_wrongIn (l : Launch) (E : En) (ad : Nat → Nat) (iv : Nat → Int32) (ch : Nat → Int32) (rd : Nat → Int32) (tp : Nat → Int32) (rf : Nat → Int32) (hd : Nat → Option Nat) (tr : Nat) (dy : Nat) (im : Option Nat) (adg : Nat → Nat) (ivg : Nat → Int32) (grg : Nat → Int32) (pag : Nat → Int32) (mog : Nat → Int32) (sgg : Nat → Int32) (tng : Option Nat) (adn : Nat → Nat) (ivn : Nat → Int32) (hrn : Nat → Int32) (csn : Nat → Int32) (qla : Nat) (nla : Nat) (Rla : Nat → Int64) (K : Nat → Nat → Int32) (n st : Nat)  (hn : ivn 3 = nI n) (hst : ivn 4 = nI st) (hn7 : n ≤ 7) (hs2 : 2 ≤ st) (hs4 : st ≤ 4) (hsym : kSym K n) (hnl : nla ≤ 7) : CtI l E yX0_wrongIn cX0_wrongIn 5 .int 14 0 0 [.ref (ad 11), .ref qla] (xW E ad iv ch rd tp rf hd (adn 10) tr (adg 8) dy im ++ (gW E adg ivg grg pag mog sgg tng ++ (tW E adn ivn hrn csn (sK K) ++ (laW E qla nla Rla)))) (fun (r : Int32) (u : (Nat → Int32) × (Nat → Int32) × (Nat → Int32) × (Nat → Int32) × (Option Nat) × Int32) => r = wrV K n st Rla nla) (fun (u : (Nat → Int32) × (Nat → Int32) × (Nat → Int32) × (Nat → Int32) × (Option Nat) × Int32) => xW E ad iv ch rd tp rf hd (adn 10) tr (adg 8) dy im ++ (gW E adg (va_up ivg 5 u.2.2.2.2.2) u.2.2.1 u.2.2.2.1 u.1 u.2.1 u.2.2.2.2.1 ++ (tW E adn ivn hrn csn (sK K) ++ (laW E qla nla Rla)))) := by
  have h28 : 2 ^ n ≤ 2 ^ 7 := Nat.pow_le_pow_right (by decide) hn7
  refine CtI.of (by decide +kernel) (Nat.le_of_ble_eq_true rfl) ?_
  intro pR eR sR mR aR bR tR cR AR ls QR hxR hbR hmlR hts hown hlk hnm hA hK hI hl hret
  have hl : lv_has ls 5 [(0, .ref (ad 11)), (1, .ref qla)] := hl
  refine lv_aload_n hxR hbR dX0_wrongIn_0 rfl (lv_at hl 0 rfl) ?_
  have hI := wI_w app3 hI
  refine kVT (n := 0) (As := []) (rest := []) (fun w => w ++ (laW E qla nla Rla)) hxR hbR hmlR hts hown hK hA hl.1 (isCtx.suf _) hI (c0_groups l E ad iv ch rd tp rf hd tr dy im adg ivg grg pag mog sgg tng adn ivn hrn csn K n st hn hst (by first | omega | with_reducible assumption) (by first | omega | with_reducible assumption) (by first | omega | with_reducible assumption) (by first | omega | with_reducible assumption)) (lw_V q626 q628 qs5 q81 q629) ⟨rfl, by decide +kernel⟩ 8 0 rfl rfl (he_l xW_o) rfl (Nat.le_of_ble_eq_true rfl) (Nat.le_of_ble_eq_true rfl) ⟨Nat.le_of_ble_eq_true rfl, Nat.le_of_ble_eq_true rfl⟩ (Nat.le_of_ble_eq_true rfl) dX0_wrongIn_1 (fun u H locs hp hI hz => ?_)
  obtain ⟨mo2_1, sg2_1⟩ := u
  have hI := wI_w app3.symm hI
  have hI : wI E AR sR H locs (xW E ad iv ch rd tp rf hd (adn 10) tr (adg 8) dy im ++ (gW E adg (va_up ivg 5 (nI ((GL K n st).length))) (wrL grg 0 (GL K n st)) (wrL pag 0 ((GL K n st).map pairN)) mo2_1 sg2_1 (some (adn 10)) ++ (tW E adn ivn hrn csn (sK K) ++ (laW E qla nla Rla)))) := hI
  have hp : (∀ Z, Z < 2 ^ n → mo2_1 Z = nI (mostV (GL K n st) Z)) ∧ (∀ p, p < n → sg2_1 p = nI (strS K p n)) := hp
  obtain ⟨hmo_1, hsg_1⟩ := hp
  have hLg : gL (wrL grg 0 (GL K n st)) (GL K n st) := gL_wr hn7 hs2 hs4
  have hl35 := hLg.2.1
  refine lv_pop hxR hbR dX0_wrongIn_4 rfl ?_
  refine lv_iconst (v := 0) hxR hbR dX0_wrongIn_5 (by decide) ?_
  refine lv_istore_n (lv' := [(2, .int 0), (0, .ref (ad 11)), (1, .ref qla)]) hxR hbR dX0_wrongIn_6 rfl hl (by decide) rfl (fun ls hl => ?_)
  refine lv_iconst (v := 0) hxR hbR dX0_wrongIn_7 (by decide) ?_
  refine lv_istore_n (lv' := [(3, .int 0), (2, .int 0), (0, .ref (ad 11)), (1, .ref qla)]) hxR hbR dX0_wrongIn_8 rfl hl (by decide) rfl (fun ls hl => ?_)
  have lp_9 : ∀ (fu : Nat) (k : Nat) (g : Nat), (k ≤ nla) → (g = rode Rla k) → (∀ j, j < k → okT K n st Rla j = true) → nla - k < fu → ∀ (H : Heap) (locs : List Loc), wI E AR sR H locs (xW E ad iv ch rd tp rf hd (adn 10) tr (adg 8) dy im ++ (gW E adg (va_up ivg 5 (nI ((GL K n st).length))) (wrL grg 0 (GL K n st)) (wrL pag 0 ((GL K n st).map pairN)) mo2_1 sg2_1 (some (adn 10)) ++ (tW E adn ivn hrn csn (sK K) ++ (laW E qla nla Rla)))) → ∀ ls : Array Slot, lv_has ls 5 [(0, .ref (ad 11)), (1, .ref qla), (2, .int (nI g)), (3, .int (nI k))] → W pR l eR (rmF 14 0 0) sR mR aR bR tR cR H locs 0 0 QR (F0 mR 9 ls []) := by
    intro fu
    induction fu with
    | zero =>
      intro k g hk hg hok hfu
      exact absurd hfu (Nat.not_lt_zero _)
    | succ fu ih_9 =>
      intro k g hk hg hok hfu H locs hI ls hl
      refine lv_iload_n hxR hbR dX0_wrongIn_9 rfl (lv_at hl 3 rfl) ?_
      refine lv_aload_n hxR hbR dX0_wrongIn_10 rfl (lv_at hl 1 rfl) ?_
      refine r_alen (v := nI nla) hxR hbR hK hI (14 + (5 + (4 + 0))) 1 rfl (he_r (Nat.le_of_ble_eq_true rfl) (Nat.le_of_ble_eq_true rfl) (he_r (Nat.le_of_ble_eq_true rfl) (Nat.le_of_ble_eq_true rfl) (he_r (Nat.le_of_ble_eq_true rfl) (Nat.le_of_ble_eq_true rfl) rfl))) rfl dX0_wrongIn_11 ?_
      refine lv_icmp_ge (tgt := 90) hxR hbR dX0_wrongIn_12 (by decide) (fun c_12 => ?_) (fun c_12 => ?_)
      · skip
        have c_12 : nla ≤ k := (n_le (a := nla) (b := k) (by omega) (by omega)).mp c_12
        refine lv_iconst (v := (-1)) hxR hbR dX0_wrongIn_90 (by decide) ?_
        exact hret (mo2_1, sg2_1, wrL grg 0 (GL K n st), wrL pag 0 ((GL K n st).map pairN), some (adn 10), nI ((GL K n st).length)) (-1) _ _ _ _ _ _ dX0_wrongIn_91 hI (by show (-1) = wrV K n st Rla nla; exact (wrG_y (fun j hj => hok j (by omega))).symm) (Nat.le_of_ble_eq_true rfl) (Nat.le_of_ble_eq_true rfl) rfl
      · skip
        have c_12 : k < nla := Nat.lt_of_not_le (fun zz => c_12 ((n_le (a := nla) (b := k) (by omega) (by omega)).mpr zz))
        refine lv_aload_n hxR hbR dX0_wrongIn_15 rfl (lv_at hl 1 rfl) ?_
        refine lv_iload_n hxR hbR dX0_wrongIn_16 rfl (lv_at hl 3 rfl) ?_
        refine r_lald hxR hbR hK hI (14 + (5 + (4 + 0))) (n := nla) (J := k) (f := Rla) (v := Rla k) (he_r (Nat.le_of_ble_eq_true rfl) (Nat.le_of_ble_eq_true rfl) (he_r (Nat.le_of_ble_eq_true rfl) (Nat.le_of_ble_eq_true rfl) (he_r (Nat.le_of_ble_eq_true rfl) (Nat.le_of_ble_eq_true rfl) rfl))) (by omega) (by omega) rfl dX0_wrongIn_17 ?_
        refine lv_lconst (v := 0) hxR hbR dX0_wrongIn_18 (by decide) ?_
        refine W.lcmp hxR hbR dX0_wrongIn_19 ?_
        refine lv_if_lt (tgt := 56) hxR hbR dX0_wrongIn_20 (by decide) (fun c_20 => ?_) (fun c_20 => ?_)
        · skip
          have i_20 : (lg_cmp (Rla k) (0 : Int64)).toInt < 0 := by have zz := i_lt.mp c_20; exact zz
          refine lv_iconst (v := 0) hxR hbR dX0_wrongIn_56 (by decide) ?_
          refine lv_istore (lv' := [(4, .int 0), (0, .ref (ad 11)), (1, .ref qla), (2, .int (nI g)), (3, .int (nI k))]) hxR hbR dX0_wrongIn_57 hl (by decide) rfl (fun ls hl => ?_)
          refine lv_iload hxR hbR dX0_wrongIn_59 (lv_at hl 0 rfl) ?_
          refine lv_if_eq (tgt := 75) hxR hbR dX0_wrongIn_61 (by decide) (fun _ => ?_) (fun c => absurd c (by decide))
          refine lv_iload_n hxR hbR dX0_wrongIn_75 rfl (lv_at hl 4 rfl) ?_
          exact hret (mo2_1, sg2_1, wrL grg 0 (GL K n st), wrL pag 0 ((GL K n st).map pairN), some (adn 10), nI ((GL K n st).length)) (nI k) _ _ _ _ _ _ dX0_wrongIn_76 hI (by show (nI k) = wrV K n st Rla nla; exact (wrG_n hok (okT_f1 (fun z => absurd z.1 (by have h9 := (cmp_lt _ _).mp c_20; rw [show (0 : Int64).toInt = 0 from rfl] at h9; omega))) (by omega) c_12 (by omega)).symm) (Nat.le_of_ble_eq_true rfl) (Nat.le_of_ble_eq_true rfl) rfl
        · skip
          have i_20 : ¬ ((lg_cmp (Rla k) (0 : Int64)).toInt < 0) := by have zz := mt i_lt.mpr c_20; exact zz
          refine lv_aload_n hxR hbR dX0_wrongIn_23 rfl (lv_at hl 1 rfl) ?_
          refine lv_iload_n hxR hbR dX0_wrongIn_24 rfl (lv_at hl 3 rfl) ?_
          refine r_lald hxR hbR hK hI (14 + (5 + (4 + 0))) (n := nla) (J := k) (f := Rla) (v := Rla k) (he_r (Nat.le_of_ble_eq_true rfl) (Nat.le_of_ble_eq_true rfl) (he_r (Nat.le_of_ble_eq_true rfl) (Nat.le_of_ble_eq_true rfl) (he_r (Nat.le_of_ble_eq_true rfl) (Nat.le_of_ble_eq_true rfl) rfl))) (by omega) (by omega) rfl dX0_wrongIn_25 ?_
          refine lv_aload_n hxR hbR dX0_wrongIn_26 rfl (lv_at hl 0 rfl) ?_
          refine r_get hxR hbR hts hown hK hI okX0 (ci := 0) rfl 8 (he_l xW_o) 0 (by decide) q263 rfl (v := .ref (adn 10)) rfl dX0_wrongIn_27 ?_
          have hI := wI_w app2 hI
          refine kVI (n := 0) (As := []) (rest := [.long (Rla k)]) (fun w => (xW E ad iv ch rd tp rf hd (adn 10) tr (adg 8) dy im ++ (gW E adg (va_up ivg 5 (nI ((GL K n st).length))) (wrL grg 0 (GL K n st)) (wrL pag 0 ((GL K n st).map pairN)) mo2_1 sg2_1 (some (adn 10)))) ++ (w ++ (laW E qla nla Rla))) hxR hbR hmlR hts hown hK hA hl.1 (isCtx.mk _ _) hI (c1_all l E adn ivn hrn csn K n hn (by first | omega | with_reducible assumption)) (lw_V q669 q643 q644 q82 q645) ⟨rfl, by decide +kernel⟩ 0 1 rfl rfl tW_o rfl (Nat.le_of_ble_eq_true rfl) (Nat.le_of_ble_eq_true rfl) ⟨Nat.le_of_ble_eq_true rfl, Nat.le_of_ble_eq_true rfl⟩ (Nat.le_of_ble_eq_true rfl) dX0_wrongIn_30 (fun r_30 u H locs hp hI hz => ?_)
          have hI := wI_w app2.symm hI
          have hI : wI E AR sR H locs (xW E ad iv ch rd tp rf hd (adn 10) tr (adg 8) dy im ++ (gW E adg (va_up ivg 5 (nI ((GL K n st).length))) (wrL grg 0 (GL K n st)) (wrL pag 0 ((GL K n st).map pairN)) mo2_1 sg2_1 (some (adn 10)) ++ (tW E adn ivn hrn csn (sK K) ++ (laW E qla nla Rla)))) := hI
          have hp : r_30 = nI (2 ^ n - 1) := hp
          have hr_30 := hp
          subst hr_30
          refine lv_i2l (v := (nI (2 ^ n - 1)).toInt64) hxR hbR dX0_wrongIn_33 rfl ?_
          refine W.lcmp hxR hbR dX0_wrongIn_34 ?_
          refine lv_if_gt (tgt := 56) hxR hbR dX0_wrongIn_35 (by decide) (fun c_35 => ?_) (fun c_35 => ?_)
          · skip
            have i_35 : 0 < (lg_cmp (Rla k) ((nI (2 ^ n - 1)).toInt64)).toInt := by have zz := i_lt.mp c_35; exact zz
            refine lv_iconst (v := 0) hxR hbR dX0_wrongIn_56 (by decide) ?_
            refine lv_istore (lv' := [(4, .int 0), (0, .ref (ad 11)), (1, .ref qla), (2, .int (nI g)), (3, .int (nI k))]) hxR hbR dX0_wrongIn_57 hl (by decide) rfl (fun ls hl => ?_)
            refine lv_iload hxR hbR dX0_wrongIn_59 (lv_at hl 0 rfl) ?_
            refine lv_if_eq (tgt := 75) hxR hbR dX0_wrongIn_61 (by decide) (fun _ => ?_) (fun c => absurd c (by decide))
            refine lv_iload_n hxR hbR dX0_wrongIn_75 rfl (lv_at hl 4 rfl) ?_
            exact hret (mo2_1, sg2_1, wrL grg 0 (GL K n st), wrL pag 0 ((GL K n st).map pairN), some (adn 10), nI ((GL K n st).length)) (nI k) _ _ _ _ _ _ dX0_wrongIn_76 hI (by show (nI k) = wrV K n st Rla nla; exact (wrG_n hok (okT_f1 (fun z => absurd z.2 (by have h9 := (cmp_gt _ _).mp c_35; rw [Int32.toInt_toInt64, nI_toInt (by omega)] at h9; omega))) (by omega) c_12 (by omega)).symm) (Nat.le_of_ble_eq_true rfl) (Nat.le_of_ble_eq_true rfl) rfl
          · skip
            have i_35 : ¬ (0 < (lg_cmp (Rla k) ((nI (2 ^ n - 1)).toInt64)).toInt) := by have zz := mt i_lt.mpr c_35; exact zz
            have c_tk : (0 ≤ (Rla k).toInt ∧ (Rla k).toInt ≤ ((2 ^ n - 1 : Nat) : Int)) := by
              have h8 := mt (cmp_lt _ _).mpr c_20
              have h9 := mt (cmp_gt _ _).mpr c_35
              rw [show (0 : Int64).toInt = 0 from rfl] at h8
              rw [Int32.toInt_toInt64, nI_toInt (by omega)] at h9
              omega
            have htl : tS Rla k < 2 ^ n := by have := Nat.two_pow_pos n; unfold tS; omega
            refine lv_aload_n hxR hbR dX0_wrongIn_38 rfl (lv_at hl 0 rfl) ?_
            refine r_get hxR hbR hts hown hK hI okX0 (ci := 0) rfl 8 (he_l xW_o) 3 (by decide) q267 rfl (v := .ref (adg 8)) rfl dX0_wrongIn_39 ?_
            refine lv_aload_n hxR hbR dX0_wrongIn_42 rfl (lv_at hl 1 rfl) ?_
            refine lv_iload_n hxR hbR dX0_wrongIn_43 rfl (lv_at hl 3 rfl) ?_
            refine r_lald hxR hbR hK hI (14 + (5 + (4 + 0))) (n := nla) (J := k) (f := Rla) (v := Rla k) (he_r (Nat.le_of_ble_eq_true rfl) (Nat.le_of_ble_eq_true rfl) (he_r (Nat.le_of_ble_eq_true rfl) (Nat.le_of_ble_eq_true rfl) (he_r (Nat.le_of_ble_eq_true rfl) (Nat.le_of_ble_eq_true rfl) rfl))) (by omega) (by omega) rfl dX0_wrongIn_44 ?_
            refine lv_l2i (v := (Rla k).toInt32) hxR hbR dX0_wrongIn_45 rfl ?_
            refine lv_as (y := nI (tS Rla k)) (tS_int c_tk (by omega)) ?_
            refine kVI (n := 1) (As := [.int (nI (tS Rla k))]) (rest := []) (fun w => (xW E ad iv ch rd tp rf hd (adn 10) tr (adg 8) dy im) ++ (w ++ (tW E adn ivn hrn csn (sK K) ++ (laW E qla nla Rla)))) hxR hbR hmlR hts hown hK hA hl.1 (isCtx.mk _ _) hI (c2_has1 l E adg (va_up ivg 5 (nI ((GL K n st).length))) (wrL grg 0 (GL K n st)) (wrL pag 0 ((GL K n st).map pairN)) mo2_1 sg2_1 (some (adn 10)) (GL K n st) (tS Rla k) va_up_s hLg (by omega)) (lw_V q1173 q1174 q1175 q83 q1176) ⟨rfl, by decide +kernel⟩ 0 2 rfl rfl gW_o rfl (Nat.le_of_ble_eq_true rfl) (Nat.le_of_ble_eq_true rfl) ⟨Nat.le_of_ble_eq_true rfl, Nat.le_of_ble_eq_true rfl⟩ (Nat.le_of_ble_eq_true rfl) dX0_wrongIn_46 (fun r_46 u H locs hp hI hz => ?_)
            have hI : wI E AR sR H locs (xW E ad iv ch rd tp rf hd (adn 10) tr (adg 8) dy im ++ (gW E adg (va_up ivg 5 (nI ((GL K n st).length))) (wrL grg 0 (GL K n st)) (wrL pag 0 ((GL K n st).map pairN)) mo2_1 sg2_1 (some (adn 10)) ++ (tW E adn ivn hrn csn (sK K) ++ (laW E qla nla Rla)))) := hI
            have hp : r_46 = b2i (decide ((tS Rla k) ∈ (GL K n st))) := hp
            have hr_46 := hp
            rcases b2i_cases hr_46 with ⟨c_46, rfl⟩ | ⟨c_46, rfl⟩
            · skip
              have c_46 : (tS Rla k) ∈ (GL K n st) := of_decide_eq_true c_46
              have c_ig : isGrp K n st (tS Rla k) = true := by rw [isGrp_mem (by omega) (by unfold tS; omega)]; exact decide_eq_true c_46
              refine lv_if_eq (tgt := 56) hxR hbR dX0_wrongIn_49 (by decide) (fun c => absurd c (by decide)) (fun _ => ?_)
              refine lv_iconst (v := 1) hxR hbR dX0_wrongIn_52 (by decide) ?_
              refine lv_goto (tgt := 57) hxR hbR dX0_wrongIn_53 (by decide) ?_
              refine lv_istore (lv' := [(4, .int 1), (0, .ref (ad 11)), (1, .ref qla), (2, .int (nI g)), (3, .int (nI k))]) hxR hbR dX0_wrongIn_57 hl (by decide) rfl (fun ls hl => ?_)
              refine lv_iload hxR hbR dX0_wrongIn_59 (lv_at hl 0 rfl) ?_
              refine lv_if_eq (tgt := 75) hxR hbR dX0_wrongIn_61 (by decide) (fun c => absurd c (by decide)) (fun _ => ?_)
              refine lv_aload_n hxR hbR dX0_wrongIn_64 rfl (lv_at hl 2 rfl) ?_
              refine lv_iload_n hxR hbR dX0_wrongIn_65 rfl (lv_at hl 4 rfl) ?_
              refine r_lald hxR hbR hK hI (14 + (5 + (4 + 0))) (n := nla) (J := k) (f := Rla) (v := Rla k) (he_r (Nat.le_of_ble_eq_true rfl) (Nat.le_of_ble_eq_true rfl) (he_r (Nat.le_of_ble_eq_true rfl) (Nat.le_of_ble_eq_true rfl) (he_r (Nat.le_of_ble_eq_true rfl) (Nat.le_of_ble_eq_true rfl) rfl))) (by omega) (by omega) rfl dX0_wrongIn_66 ?_
              refine lv_iload_n hxR hbR dX0_wrongIn_67 rfl (lv_at hl 3 rfl) ?_
              refine lv_i2l (v := (nI g).toInt64) hxR hbR dX0_wrongIn_68 rfl ?_
              refine lv_land hxR hbR dX0_wrongIn_69 ?_
              refine lv_lconst (v := 0) hxR hbR dX0_wrongIn_70 (by decide) ?_
              refine W.lcmp hxR hbR dX0_wrongIn_71 ?_
              refine lv_if_eq (tgt := 77) hxR hbR dX0_wrongIn_72 (by decide) (fun c_72 => ?_) (fun c_72 => ?_)
              · skip
                have i_72 : (lg_cmp ((Rla k) &&& ((nI g).toInt64)) (0 : Int64)).toInt = 0 := by have zz := i_eq.mp c_72; exact zz
                have h72 : Rla k &&& (nI g).toInt64 = 0 := lg_cmp_z.mp c_72
                have h73 : tS Rla k &&& rode Rla k = 0 := by rw [← hg]; exact (told_and (n := n) c_tk h28 (by rw [hg]; have := rode_lt (r := Rla) (n := n) (i := k) (fun j hj => okT_lt (hok j hj)); omega)).mp h72
                refine lv_iload_n hxR hbR dX0_wrongIn_77 rfl (lv_at hl 3 rfl) ?_
                refine lv_aload_n hxR hbR dX0_wrongIn_78 rfl (lv_at hl 2 rfl) ?_
                refine lv_iload_n hxR hbR dX0_wrongIn_79 rfl (lv_at hl 4 rfl) ?_
                refine r_lald hxR hbR hK hI (14 + (5 + (4 + 0))) (n := nla) (J := k) (f := Rla) (v := Rla k) (he_r (Nat.le_of_ble_eq_true rfl) (Nat.le_of_ble_eq_true rfl) (he_r (Nat.le_of_ble_eq_true rfl) (Nat.le_of_ble_eq_true rfl) (he_r (Nat.le_of_ble_eq_true rfl) (Nat.le_of_ble_eq_true rfl) rfl))) (by omega) (by omega) rfl dX0_wrongIn_80 ?_
                refine lv_l2i (v := (Rla k).toInt32) hxR hbR dX0_wrongIn_81 rfl ?_
                refine lv_as (y := nI (tS Rla k)) (tS_int c_tk (by omega)) ?_
                refine lv_ior hxR hbR dX0_wrongIn_82 ?_
                refine lv_as (y := nI (g ||| (tS Rla k))) (nb_or g (tS Rla k)) ?_
                refine lv_istore_n (lv' := [(2, .int (nI (g ||| (tS Rla k)))), (4, .int 1), (0, .ref (ad 11)), (1, .ref qla), (3, .int (nI k))]) hxR hbR dX0_wrongIn_83 rfl hl (by decide) rfl (fun ls hl => ?_)
                refine lv_iinc (v := nI (k + 1)) (lv' := [(3, .int (nI (k + 1))), (2, .int (nI (g ||| (tS Rla k)))), (4, .int 1), (0, .ref (ad 11)), (1, .ref qla)]) hxR hbR dX0_wrongIn_84 hl (k := 4) rfl (show nI k + 1 = nI (k + 1) from nI_add _ 1) (by decide) rfl (fun ls hl => ?_)
                refine lv_goto (tgt := 9) hxR hbR dX0_wrongIn_87 (by decide) ?_
                exact ih_9 (k + 1) (g ||| (tS Rla k)) (by first | omega | with_reducible assumption) (by rw [hg]; rfl) (wr_s hok (okT_t c_tk c_ig h73)) (by omega) _ _ hI _ (lv_sub hl [3, 4, 1, 0] rfl)
              · skip
                have i_72 : ¬ ((lg_cmp ((Rla k) &&& ((nI g).toInt64)) (0 : Int64)).toInt = 0) := by have zz := mt i_eq.mpr c_72; exact zz
                refine lv_iload_n hxR hbR dX0_wrongIn_75 rfl (lv_at hl 4 rfl) ?_
                exact hret (mo2_1, sg2_1, wrL grg 0 (GL K n st), wrL pag 0 ((GL K n st).map pairN), some (adn 10), nI ((GL K n st).length)) (nI k) _ _ _ _ _ _ dX0_wrongIn_76 hI (by show (nI k) = wrV K n st Rla nla; exact (wrG_n hok (okT_f3 (fun z => c_72 (lg_cmp_z.mpr ((told_and (n := n) c_tk h28 (by rw [hg]; have := rode_lt (r := Rla) (n := n) (i := k) (fun j hj => okT_lt (hok j hj)); omega)).mpr (by rw [hg]; exact z))))) (by omega) c_12 (by omega)).symm) (Nat.le_of_ble_eq_true rfl) (Nat.le_of_ble_eq_true rfl) rfl
            · skip
              have c_46 : ¬ (tS Rla k) ∈ (GL K n st) := of_decide_eq_false c_46
              have c_ig : isGrp K n st (tS Rla k) = false := by rw [isGrp_mem (by omega) (by unfold tS; omega)]; exact decide_eq_false c_46
              refine lv_if_eq (tgt := 56) hxR hbR dX0_wrongIn_49 (by decide) (fun _ => ?_) (fun c => absurd c (by decide))
              refine lv_iconst (v := 0) hxR hbR dX0_wrongIn_56 (by decide) ?_
              refine lv_istore (lv' := [(4, .int 0), (0, .ref (ad 11)), (1, .ref qla), (2, .int (nI g)), (3, .int (nI k))]) hxR hbR dX0_wrongIn_57 hl (by decide) rfl (fun ls hl => ?_)
              refine lv_iload hxR hbR dX0_wrongIn_59 (lv_at hl 0 rfl) ?_
              refine lv_if_eq (tgt := 75) hxR hbR dX0_wrongIn_61 (by decide) (fun _ => ?_) (fun c => absurd c (by decide))
              refine lv_iload_n hxR hbR dX0_wrongIn_75 rfl (lv_at hl 4 rfl) ?_
              exact hret (mo2_1, sg2_1, wrL grg 0 (GL K n st), wrL pag 0 ((GL K n st).map pairN), some (adn 10), nI ((GL K n st).length)) (nI k) _ _ _ _ _ _ dX0_wrongIn_76 hI (by show (nI k) = wrV K n st Rla nla; exact (wrG_n hok (okT_f2 c_ig) (by omega) c_12 (by omega)).symm) (Nat.le_of_ble_eq_true rfl) (Nat.le_of_ble_eq_true rfl) rfl
  exact lp_9 _ 0 0 (by first | omega | with_reducible assumption) rfl (fun j h => absurd h (Nat.not_lt_zero _)) (Nat.lt_succ_self _) _ _ hI _ (lv_sub hl [2, 3, 1, 0] rfl)

theorem c0_rides (l : Launch) (E : En) (adn : Nat → Nat) (ivn : Nat → Int32) (hrn : Nat → Int32) (csn : Nat → Int32) (qla : Nat) (nla : Nat) (Rla : Nat → Int64) (K : Nat → Nat → Int32) (n : Nat) (hn : ivn 3 = nI n) (hn7 : n ≤ 7) (hnl : nla ≤ 7) (htl : (∀ j, j < nla → 0 ≤ (Rla j).toInt ∧ (Rla j).toInt ≤ ((2 ^ n - 1 : Nat) : Int))) : CtV l E yX0_rides cX0_rides 3 4 0 0 [.ref (adn 10), .ref qla] (tW E adn ivn hrn csn (sK K) ++ (laW E qla nla Rla)) (fun (u : Unit) => True) (fun (u : Unit) => tW E adn ivn hrn csn (sK (ridK n K Rla nla)) ++ (laW E qla nla Rla)) := by
  have h28 : 2 ^ n ≤ 2 ^ 7 := Nat.pow_le_pow_right (by decide) hn7
  refine CtV.of (by decide +kernel) (Nat.le_of_ble_eq_true rfl) ?_
  intro pR eR sR mR aR bR tR cR AR ls QR hxR hbR hmlR hts hown hlk hnm hA hK hI hl hret
  have hl : lv_has ls 3 [(0, .ref (adn 10)), (1, .ref qla)] := hl
  refine lv_iconst (v := 0) hxR hbR dX0_rides_0 (by decide) ?_
  refine lv_istore_n (lv' := [(2, .int 0), (0, .ref (adn 10)), (1, .ref qla)]) hxR hbR dX0_rides_1 rfl hl (by decide) rfl (fun ls hl => ?_)
  have lp_2 : ∀ (fu : Nat) (i : Nat) (Kx : Nat → Nat → Int32) (Sx : Nat → Int32), (i ≤ nla) → (Sx = sK Kx) → (Kx = ridK n K Rla i) → nla - i < fu → ∀ (H : Heap) (locs : List Loc), wI E AR sR H locs (tW E adn ivn hrn csn Sx ++ (laW E qla nla Rla)) → ∀ ls : Array Slot, lv_has ls 3 [(0, .ref (adn 10)), (1, .ref qla), (2, .int (nI i))] → W pR l eR (rmF 4 0 0) sR mR aR bR tR cR H locs 0 0 QR (F0 mR 2 ls []) := by
    intro fu
    induction fu with
    | zero =>
      intro i Kx Sx hi hSx hKx hfu
      exact absurd hfu (Nat.not_lt_zero _)
    | succ fu ih_2 =>
      intro i Kx Sx hi hSx hKx hfu H locs hI ls hl
      subst hSx
      refine lv_iload_n hxR hbR dX0_rides_2 rfl (lv_at hl 2 rfl) ?_
      refine lv_aload_n hxR hbR dX0_rides_3 rfl (lv_at hl 1 rfl) ?_
      refine r_alen (v := nI nla) hxR hbR hK hI (4 + 0) 1 rfl (he_r (Nat.le_of_ble_eq_true rfl) (Nat.le_of_ble_eq_true rfl) rfl) rfl dX0_rides_4 ?_
      refine lv_icmp_ge (tgt := 23) hxR hbR dX0_rides_5 (by decide) (fun c_5 => ?_) (fun c_5 => ?_)
      · skip
        have c_5 : nla ≤ i := (n_le (a := nla) (b := i) (by omega) (by omega)).mp c_5
        have hI : wI E AR sR H locs (tW E adn ivn hrn csn (sK (ridK n K Rla nla)) ++ (laW E qla nla Rla)) := by rw [show ridK n K Rla nla = Kx from (by rw [show nla = i by omega]; exact hKx.symm)]; exact hI
        exact hret () _ _ _ _ _ _ dX0_rides_23 hI (by show True; trivial) (Nat.le_of_ble_eq_true rfl) (Nat.le_of_ble_eq_true rfl)
      · skip
        have c_5 : i < nla := Nat.lt_of_not_le (fun zz => c_5 ((n_le (a := nla) (b := i) (by omega) (by omega)).mpr zz))
        refine lv_aload_n hxR hbR dX0_rides_8 rfl (lv_at hl 0 rfl) ?_
        refine lv_aload_n hxR hbR dX0_rides_9 rfl (lv_at hl 1 rfl) ?_
        refine lv_iload_n hxR hbR dX0_rides_10 rfl (lv_at hl 2 rfl) ?_
        refine r_lald hxR hbR hK hI (4 + 0) (n := nla) (J := i) (f := Rla) (v := Rla i) (he_r (Nat.le_of_ble_eq_true rfl) (Nat.le_of_ble_eq_true rfl) rfl) (by omega) (by omega) rfl dX0_rides_11 ?_
        refine lv_l2i (v := (Rla i).toInt32) hxR hbR dX0_rides_12 rfl ?_
        refine lv_as (y := nI (tS Rla i)) (tS_int (htl i c_5) (by omega)) ?_
        refine kVI (n := 1) (As := [.int (nI (tS Rla i))]) (rest := []) (fun w => w ++ (laW E qla nla Rla)) hxR hbR hmlR hts hown hK hA hl.1 (isCtx.suf _) hI (c1_meets l E adn ivn hrn csn Kx n (tS Rla i) hn (by first | omega | with_reducible assumption) (by have := htl i c_5; unfold tS; omega)) (lw_V q1320 q1150 q1151 q82 q1152) ⟨rfl, by decide +kernel⟩ 0 1 rfl rfl tW_o rfl (Nat.le_of_ble_eq_true rfl) (Nat.le_of_ble_eq_true rfl) ⟨Nat.le_of_ble_eq_true rfl, Nat.le_of_ble_eq_true rfl⟩ (Nat.le_of_ble_eq_true rfl) dX0_rides_13 (fun r_13 u H locs hp hI hz => ?_)
        have hI : wI E AR sR H locs (tW E adn ivn hrn csn (sK (meetK Kx (tS Rla i) n)) ++ (laW E qla nla Rla)) := hI
        have hp : r_13 = nI (mC Kx (tS Rla i) n) := hp
        have hr_13 := hp
        subst hr_13
        refine lv_pop hxR hbR dX0_rides_16 rfl ?_
        refine lv_iinc (v := nI (i + 1)) (lv' := [(2, .int (nI (i + 1))), (0, .ref (adn 10)), (1, .ref qla)]) hxR hbR dX0_rides_17 hl (k := 2) rfl (show nI i + 1 = nI (i + 1) from nI_add _ 1) (by decide) rfl (fun ls hl => ?_)
        refine lv_goto (tgt := 2) hxR hbR dX0_rides_20 (by decide) ?_
        exact ih_2 (i + 1) (meetK Kx (tS Rla i) n) (sK (meetK Kx (tS Rla i) n)) (by first | omega | with_reducible assumption) rfl (by rw [hKx]; rfl) (by omega) _ _ hI _ (lv_sub hl [1, 2, 0] rfl)
  exact lp_2 _ 0 K (sK K) (by first | omega | with_reducible assumption) rfl rfl (Nat.lt_succ_self _) _ _ hI _ (lv_sub hl [1, 2, 0] rfl)
