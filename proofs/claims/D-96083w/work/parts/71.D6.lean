theorem c0_mostOf (l : Launch) (E : En) (ad : Nat → Nat) (iv : Nat → Int32) (ch : Nat → Int32) (rd : Nat → Int32) (tp : Nat → Int32) (rf : Nat → Int32) (hd : Nat → Option Nat) (tr : Nat) (dy : Nat) (im : Option Nat) (adg : Nat → Nat) (ivg : Nat → Int32) (grg : Nat → Int32) (pag : Nat → Int32) (mog : Nat → Int32) (sgg : Nat → Int32) (tng : Option Nat) (adn : Nat → Nat) (ivn : Nat → Int32) (hrn : Nat → Int32) (csn : Nat → Int32) (K : Nat → Nat → Int32) (n st : Nat) (x i : Int32) (hn : ivn 3 = nI n) (hst : ivn 4 = nI st) (hn7 : n ≤ 7) (hs2 : 2 ≤ st) (hs4 : st ≤ 4) (hsym : kSym K n) : CtI l E yX0_mostOf cX0_mostOf 5 .int 16 0 0 [.ref (ad 11), .int x, .int i] (xW E ad iv ch rd tp rf hd (adn 10) tr (adg 8) dy im ++ (gW E adg ivg grg pag mog sgg tng ++ (tW E adn ivn hrn csn (sK K)))) (fun (r : Int32) (u : (Nat → Int32) × (Nat → Int32) × Int32 × (Nat → Int32) × (Nat → Int32) × (Option Nat)) => r = gd (mostOfC K n st x i) (nI (bestL (GL K n st) (moL (GL K n st) x.toNatClampNeg i.toNatClampNeg) (GL K n st))) (mostOfC K n st x i)) (fun (u : (Nat → Int32) × (Nat → Int32) × Int32 × (Nat → Int32) × (Nat → Int32) × (Option Nat)) => xW E ad iv ch rd tp (bumpR rf (mostOfC K n st x i)) hd (adn 10) tr (adg 8) dy im ++ (gW E adg (va_up ivg 5 u.2.2.1) u.2.2.2.1 u.2.2.2.2.1 u.1 u.2.1 u.2.2.2.2.2 ++ (tW E adn ivn hrn csn (sK K)))) := by
  have h28 : 2 ^ n ≤ 2 ^ 7 := Nat.pow_le_pow_right (by decide) hn7
  refine CtI.of (by decide +kernel) (Nat.le_of_ble_eq_true rfl) ?_
  intro pR eR sR mR aR bR tR cR AR ls QR hxR hbR hmlR hts hown hlk hnm hA hK hI hl hret
  have hl : lv_has ls 5 [(0, .ref (ad 11)), (1, .int x), (2, .int i)] := hl
  refine lv_aload_n hxR hbR dX0_mostOf_0 rfl (lv_at hl 0 rfl) ?_
  refine r_get hxR hbR hts hown hK hI okX0 (ci := 0) rfl 8 (he_l xW_o) 0 (by decide) q263 rfl (v := .ref (adn 10)) rfl dX0_mostOf_1 ?_
  refine lv_iload_n hxR hbR dX0_mostOf_4 rfl (lv_at hl 1 rfl) ?_
  have hI := wI_w app2 hI
  refine kVI (n := 1) (As := [.int x]) (rest := []) (fun w => (xW E ad iv ch rd tp rf hd (adn 10) tr (adg 8) dy im ++ (gW E adg ivg grg pag mog sgg tng)) ++ w) hxR hbR hmlR hts hown hK hA hl.1 (isCtx.pre _) hI (c1_isSet l E adn ivn hrn csn K n x hn (by omega)) (lw_V q1168 q1169 q1170 q82 q1171) ⟨rfl, by decide +kernel⟩ 0 1 rfl rfl tW_o rfl (Nat.le_of_ble_eq_true rfl) (Nat.le_of_ble_eq_true rfl) ⟨Nat.le_of_ble_eq_true rfl, Nat.le_of_ble_eq_true rfl⟩ (Nat.le_of_ble_eq_true rfl) dX0_mostOf_5 (fun r_5 u H locs hp hI hz => ?_)
  have hI := wI_w app2.symm hI
  have hI : wI E AR sR H locs (xW E ad iv ch rd tp rf hd (adn 10) tr (adg 8) dy im ++ (gW E adg ivg grg pag mog sgg tng ++ (tW E adn ivn hrn csn (sK K)))) := hI
  have hp : r_5 = b2i (decide (0 ≤ x.toInt ∧ x.toInt < ((2 ^ n : Nat) : Int))) := hp
  have hr_5 := hp
  rcases b2i_cases hr_5 with ⟨c_5, rfl⟩ | ⟨c_5, rfl⟩
  · skip
    have c_5 : 0 ≤ Int32.toInt x ∧ Int32.toInt x < ((2 ^ n : Nat) : Int) := of_decide_eq_true c_5
    obtain ⟨P, hP, rfl⟩ := nat_of c_5 (by omega)
    have tP : (nI P).toInt = (P : Int) := nI_toInt (by omega)
    refine lv_if_ne (tgt := 18) hxR hbR dX0_mostOf_8 (by decide) (fun _ => ?_) (fun c => absurd c (by decide))
    refine lv_aload_n hxR hbR dX0_mostOf_18 rfl (lv_at hl 0 rfl) ?_
    refine kVT (n := 0) (As := []) (rest := []) (fun w => w) hxR hbR hmlR hts hown hK hA hl.1 isCtx.id hI (c0_groups l E ad iv ch rd tp rf hd tr dy im adg ivg grg pag mog sgg tng adn ivn hrn csn K n st hn hst (by first | omega | with_reducible assumption) (by first | omega | with_reducible assumption) (by first | omega | with_reducible assumption) (by first | omega | with_reducible assumption)) (lw_V q626 q628 qs5 q81 q629) ⟨rfl, by decide +kernel⟩ 8 0 rfl rfl (he_l xW_o) rfl (Nat.le_of_ble_eq_true rfl) (Nat.le_of_ble_eq_true rfl) ⟨Nat.le_of_ble_eq_true rfl, Nat.le_of_ble_eq_true rfl⟩ (Nat.le_of_ble_eq_true rfl) dX0_mostOf_19 (fun u H locs hp hI hz => ?_)
    obtain ⟨mo2_19, sg2_19⟩ := u
    have hI : wI E AR sR H locs (xW E ad iv ch rd tp rf hd (adn 10) tr (adg 8) dy im ++ (gW E adg (va_up ivg 5 (nI ((GL K n st).length))) (wrL grg 0 (GL K n st)) (wrL pag 0 ((GL K n st).map pairN)) mo2_19 sg2_19 (some (adn 10)) ++ (tW E adn ivn hrn csn (sK K)))) := hI
    have hp : (∀ Z, Z < 2 ^ n → mo2_19 Z = nI (mostV (GL K n st) Z)) ∧ (∀ p, p < n → sg2_19 p = nI (strS K p n)) := hp
    obtain ⟨hmo_19, hsg_19⟩ := hp
    have hLg : gL (wrL grg 0 (GL K n st)) (GL K n st) := gL_wr hn7 hs2 hs4
    have hl35 := hLg.2.1
    have hmv := mostV_le hLg.nz P
    refine lv_pop hxR hbR dX0_mostOf_22 rfl ?_
    refine lv_iload_n hxR hbR dX0_mostOf_23 rfl (lv_at hl 2 rfl) ?_
    refine lv_iconst (v := 0) hxR hbR dX0_mostOf_24 (by decide) ?_
    refine lv_aload_n hxR hbR dX0_mostOf_25 rfl (lv_at hl 0 rfl) ?_
    refine r_get hxR hbR hts hown hK hI okX0 (ci := 0) rfl 8 (he_l xW_o) 3 (by decide) q267 rfl (v := .ref (adg 8)) rfl dX0_mostOf_26 ?_
    refine lv_iload_n hxR hbR dX0_mostOf_29 rfl (lv_at hl 1 rfl) ?_
    refine kVI (n := 1) (As := [.int (nI P)]) (rest := [.int 0, .int i]) (fun w => (xW E ad iv ch rd tp rf hd (adn 10) tr (adg 8) dy im) ++ (w ++ (tW E adn ivn hrn csn (sK K)))) hxR hbR hmlR hts hown hK hA hl.1 (isCtx.mk _ _) hI (c2_most l E adg (va_up ivg 5 (nI ((GL K n st).length))) (wrL grg 0 (GL K n st)) (wrL pag 0 ((GL K n st).map pairN)) mo2_19 sg2_19 (some (adn 10)) (GL K n st) n P (by first | omega | with_reducible assumption) hmo_19 (by omega)) (lw_V q1194 q1195 q1196 q83 q1197) ⟨rfl, by decide +kernel⟩ 0 2 rfl rfl gW_o rfl (Nat.le_of_ble_eq_true rfl) (Nat.le_of_ble_eq_true rfl) ⟨Nat.le_of_ble_eq_true rfl, Nat.le_of_ble_eq_true rfl⟩ (Nat.le_of_ble_eq_true rfl) dX0_mostOf_30 (fun r_30 u H locs hp hI hz => ?_)
    have hI : wI E AR sR H locs (xW E ad iv ch rd tp rf hd (adn 10) tr (adg 8) dy im ++ (gW E adg (va_up ivg 5 (nI ((GL K n st).length))) (wrL grg 0 (GL K n st)) (wrL pag 0 ((GL K n st).map pairN)) mo2_19 sg2_19 (some (adn 10)) ++ (tW E adn ivn hrn csn (sK K)))) := hI
    have hp : r_30 = nI (mostV (GL K n st) P) := hp
    have hr_30 := hp
    subst hr_30
    refine lv_iconst (v := 1) hxR hbR dX0_mostOf_33 (by decide) ?_
    refine lv_isub hxR hbR dX0_mostOf_34 ?_
    refine kSI (n := 3) (As := [.int i, .int 0, .int ((nI (mostV (GL K n st) P)) - 1)]) (rest := []) (fun w => w ++ (xW E ad iv ch rd tp rf hd (adn 10) tr (adg 8) dy im ++ (gW E adg (va_up ivg 5 (nI ((GL K n st).length))) (wrL grg 0 (GL K n st)) (wrL pag 0 ((GL K n st).map pairN)) mo2_19 sg2_19 (some (adn 10)) ++ (tW E adn ivn hrn csn (sK K))))) hxR hbR hmlR hts hown hK hA hl.1 (isCtx.suf _) hI (c0_isIn l E  i 0 ((nI (mostV (GL K n st) P)) - 1) ) (lw_S q393 q394 q81 q395) (by decide +kernel) rfl (Nat.le_of_ble_eq_true rfl) (Nat.le_of_ble_eq_true rfl) ⟨Nat.le_of_ble_eq_true rfl, Nat.le_of_ble_eq_true rfl⟩ (Nat.le_of_ble_eq_true rfl) dX0_mostOf_35 (fun r_35 u H locs hp hI hz => ?_)
    have hI : wI E AR sR H locs (xW E ad iv ch rd tp rf hd (adn 10) tr (adg 8) dy im ++ (gW E adg (va_up ivg 5 (nI ((GL K n st).length))) (wrL grg 0 (GL K n st)) (wrL pag 0 ((GL K n st).map pairN)) mo2_19 sg2_19 (some (adn 10)) ++ (tW E adn ivn hrn csn (sK K)))) := hI
    have hp : r_35 = b2i (decide (Int32.toInt 0 ≤ Int32.toInt i ∧ Int32.toInt i ≤ Int32.toInt ((nI (mostV (GL K n st) P)) - 1))) := hp
    have hr_35 := hp
    rcases b2i_cases hr_35 with ⟨c_35, rfl⟩ | ⟨c_35, rfl⟩
    · skip
      have c_35 : Int32.toInt 0 ≤ Int32.toInt i ∧ Int32.toInt i ≤ Int32.toInt ((nI (mostV (GL K n st) P)) - 1) := of_decide_eq_true c_35
      have c_35 : 0 ≤ i.toInt ∧ i.toInt ≤ (mostV (GL K n st) P : Int) - 1 := by rw [nI_m1 (n := mostV (GL K n st) P) (by omega)] at c_35; exact c_35
      obtain ⟨ix, hix, rfl⟩ := nat_of (x := i) (k := mostV (GL K n st) P) (by omega) (by omega)
      have tix : (nI ix).toInt = (ix : Int) := nI_toInt (by omega)
      refine lv_if_ne (tgt := 48) hxR hbR dX0_mostOf_38 (by decide) (fun _ => ?_) (fun c => absurd c (by decide))
      refine lv_iload_n hxR hbR dX0_mostOf_48 rfl (lv_at hl 1 rfl) ?_
      refine lv_istore_n (lv' := [(3, .int (nI P)), (0, .ref (ad 11)), (1, .int (nI P)), (2, .int (nI ix))]) hxR hbR dX0_mostOf_49 rfl hl (by decide) rfl (fun ls hl => ?_)
      refine lv_iconst (v := 0) hxR hbR dX0_mostOf_50 (by decide) ?_
      refine lv_istore (lv' := [(4, .int 0), (3, .int (nI P)), (0, .ref (ad 11)), (1, .int (nI P)), (2, .int (nI ix))]) hxR hbR dX0_mostOf_51 hl (by decide) rfl (fun ls hl => ?_)
      have lp_53 : ∀ (fu : Nat) (k : Nat) (w : Nat), (k ≤ ix) → (w = moL (GL K n st) P k) → (w ≤ P) → ix - k < fu → ∀ (H : Heap) (locs : List Loc), wI E AR sR H locs (xW E ad iv ch rd tp rf hd (adn 10) tr (adg 8) dy im ++ (gW E adg (va_up ivg 5 (nI ((GL K n st).length))) (wrL grg 0 (GL K n st)) (wrL pag 0 ((GL K n st).map pairN)) mo2_19 sg2_19 (some (adn 10)) ++ (tW E adn ivn hrn csn (sK K)))) → ∀ ls : Array Slot, lv_has ls 5 [(0, .ref (ad 11)), (1, .int (nI P)), (2, .int (nI ix)), (3, .int (nI w)), (4, .int (nI k))] → W pR l eR (rmF 16 0 0) sR mR aR bR tR cR H locs 0 0 QR (F0 mR 53 ls []) := by
        intro fu
        induction fu with
        | zero =>
          intro k w hk hw hwl hfu
          exact absurd hfu (Nat.not_lt_zero _)
        | succ fu ih_53 =>
          intro k w hk hw hwl hfu H locs hI ls hl
          refine lv_iload hxR hbR dX0_mostOf_53 (lv_at hl 4 rfl) ?_
          refine lv_iload_n hxR hbR dX0_mostOf_55 rfl (lv_at hl 2 rfl) ?_
          refine lv_icmp_ge (tgt := 78) hxR hbR dX0_mostOf_56 (by decide) (fun c_56 => ?_) (fun c_56 => ?_)
          · skip
            have c_56 : ix ≤ k := (n_le (a := ix) (b := k) (by omega) (by omega)).mp c_56
            refine lv_aload_n hxR hbR dX0_mostOf_78 rfl (lv_at hl 0 rfl) ?_
            refine r_get hxR hbR hts hown hK hI okX0 (ci := 0) rfl 8 (he_l xW_o) 3 (by decide) q267 rfl (v := .ref (adg 8)) rfl dX0_mostOf_79 ?_
            refine lv_iload_n hxR hbR dX0_mostOf_82 rfl (lv_at hl 3 rfl) ?_
            have hkI : k = ix := by omega
            refine kVI (n := 1) (As := [.int (nI w)]) (rest := []) (fun w => (xW E ad iv ch rd tp rf hd (adn 10) tr (adg 8) dy im) ++ (w ++ (tW E adn ivn hrn csn (sK K)))) hxR hbR hmlR hts hown hK hA hl.1 (isCtx.mk _ _) hI (c2_best l E adg (va_up ivg 5 (nI ((GL K n st).length))) (wrL grg 0 (GL K n st)) (wrL pag 0 ((GL K n st).map pairN)) mo2_19 sg2_19 (some (adn 10)) (GL K n st) n w va_up_s (by first | omega | with_reducible assumption) (by first | omega | with_reducible assumption) hmo_19 (by omega)) (lw_V q1202 q691 q692 q83 q693) ⟨rfl, by decide +kernel⟩ 0 2 rfl rfl gW_o rfl (Nat.le_of_ble_eq_true rfl) (Nat.le_of_ble_eq_true rfl) ⟨Nat.le_of_ble_eq_true rfl, Nat.le_of_ble_eq_true rfl⟩ (Nat.le_of_ble_eq_true rfl) dX0_mostOf_83 (fun r_83 u H locs hp hI hz => ?_)
            have hI : wI E AR sR H locs (xW E ad iv ch rd tp rf hd (adn 10) tr (adg 8) dy im ++ (gW E adg (va_up ivg 5 (nI ((GL K n st).length))) (wrL grg 0 (GL K n st)) (wrL pag 0 ((GL K n st).map pairN)) mo2_19 sg2_19 (some (adn 10)) ++ (tW E adn ivn hrn csn (sK K)))) := hI
            have hp : r_83 = nI (bestL (GL K n st) w (GL K n st)) := hp
            have hr_83 := hp
            subst hr_83
            have hC : mostOfC K n st (nI P) (nI ix) = 0 := by
              clear hret hI
              unfold mostOfC; rw [if_pos c_5]; simp only [nI_clamp (n := P) (by omega)]; rw [if_pos (by omega)]
            have erf : bumpR rf (mostOfC K n st (nI P) (nI ix)) = rf := by rw [hC]; exact bump_0 _
            have hI := wI_w (ws' := xW E ad iv ch rd tp (bumpR rf (mostOfC K n st (nI P) (nI ix))) hd (adn 10) tr (adg 8) dy im ++ (gW E adg (va_up ivg 5 (nI ((GL K n st).length))) (wrL grg 0 (GL K n st)) (wrL pag 0 ((GL K n st).map pairN)) mo2_19 sg2_19 (some (adn 10)) ++ (tW E adn ivn hrn csn (sK K)))) (by rw [erf]; try rfl) hI
            exact hret (mo2_19, sg2_19, nI ((GL K n st).length), wrL grg 0 (GL K n st), wrL pag 0 ((GL K n st).map pairN), some (adn 10)) (nI (bestL (GL K n st) w (GL K n st))) _ _ 0 0 _ _ dX0_mostOf_86 hI (by show (nI (bestL (GL K n st) w (GL K n st))) = gd (mostOfC K n st (nI P) (nI ix)) (nI (bestL (GL K n st) (moL (GL K n st) (nI P).toNatClampNeg (nI ix).toNatClampNeg) (GL K n st))) (mostOfC K n st (nI P) (nI ix)); rw [hC]; simp only [nI_clamp (n := P) (by omega), nI_clamp (n := ix) (by omega)]; rw [← hkI, ← hw]; rfl) (Nat.le_of_ble_eq_true rfl) (Nat.le_of_ble_eq_true rfl) rfl
          · skip
            have c_56 : k < ix := Nat.lt_of_not_le (fun zz => c_56 ((n_le (a := ix) (b := k) (by omega) (by omega)).mpr zz))
            refine lv_iload_n hxR hbR dX0_mostOf_59 rfl (lv_at hl 3 rfl) ?_
            refine lv_aload_n hxR hbR dX0_mostOf_60 rfl (lv_at hl 0 rfl) ?_
            refine r_get hxR hbR hts hown hK hI okX0 (ci := 0) rfl 8 (he_l xW_o) 3 (by decide) q267 rfl (v := .ref (adg 8)) rfl dX0_mostOf_61 ?_
            refine lv_iload_n hxR hbR dX0_mostOf_64 rfl (lv_at hl 3 rfl) ?_
            refine kVI (n := 1) (As := [.int (nI w)]) (rest := [.int (nI w)]) (fun w => (xW E ad iv ch rd tp rf hd (adn 10) tr (adg 8) dy im) ++ (w ++ (tW E adn ivn hrn csn (sK K)))) hxR hbR hmlR hts hown hK hA hl.1 (isCtx.mk _ _) hI (c2_best l E adg (va_up ivg 5 (nI ((GL K n st).length))) (wrL grg 0 (GL K n st)) (wrL pag 0 ((GL K n st).map pairN)) mo2_19 sg2_19 (some (adn 10)) (GL K n st) n w va_up_s (by first | omega | with_reducible assumption) (by first | omega | with_reducible assumption) hmo_19 (by omega)) (lw_V q1202 q691 q692 q83 q693) ⟨rfl, by decide +kernel⟩ 0 2 rfl rfl gW_o rfl (Nat.le_of_ble_eq_true rfl) (Nat.le_of_ble_eq_true rfl) ⟨Nat.le_of_ble_eq_true rfl, Nat.le_of_ble_eq_true rfl⟩ (Nat.le_of_ble_eq_true rfl) dX0_mostOf_65 (fun r_65 u H locs hp hI hz => ?_)
            have hI : wI E AR sR H locs (xW E ad iv ch rd tp rf hd (adn 10) tr (adg 8) dy im ++ (gW E adg (va_up ivg 5 (nI ((GL K n st).length))) (wrL grg 0 (GL K n st)) (wrL pag 0 ((GL K n st).map pairN)) mo2_19 sg2_19 (some (adn 10)) ++ (tW E adn ivn hrn csn (sK K)))) := hI
            have hp : r_65 = nI (bestL (GL K n st) w (GL K n st)) := hp
            have hr_65 := hp
            subst hr_65
            refine lv_iconst (v := (-1)) hxR hbR dX0_mostOf_68 (by decide) ?_
            refine lv_ixor hxR hbR dX0_mostOf_69 ?_
            refine lv_iand hxR hbR dX0_mostOf_70 ?_
            refine lv_as (y := nI (nd w (bestL (GL K n st) w (GL K n st)))) (nb_nd w (bestL (GL K n st) w (GL K n st))) ?_
            refine lv_istore_n (lv' := [(3, .int (nI (nd w (bestL (GL K n st) w (GL K n st))))), (0, .ref (ad 11)), (1, .int (nI P)), (2, .int (nI ix)), (4, .int (nI k))]) hxR hbR dX0_mostOf_71 rfl hl (by decide) rfl (fun ls hl => ?_)
            refine lv_iinc (v := nI (k + 1)) (lv' := [(4, .int (nI (k + 1))), (3, .int (nI (nd w (bestL (GL K n st) w (GL K n st))))), (0, .ref (ad 11)), (1, .int (nI P)), (2, .int (nI ix))]) hxR hbR dX0_mostOf_72 hl (k := 4) rfl (show nI k + 1 = nI (k + 1) from nI_add _ 1) (by decide) rfl (fun ls hl => ?_)
            refine lv_goto (tgt := 53) hxR hbR dX0_mostOf_75 (by decide) ?_
            exact ih_53 (k + 1) (nd w (bestL (GL K n st) w (GL K n st))) (by first | omega | with_reducible assumption) (by rw [hw]; rfl) (Nat.le_trans (nd_le _ _) hwl) (by omega) _ _ hI _ (lv_sub hl [2, 3, 4, 1, 0] rfl)
      exact lp_53 _ 0 P (by first | omega | with_reducible assumption) rfl (by first | omega | with_reducible assumption) (Nat.lt_succ_self _) _ _ hI _ (lv_sub hl [2, 3, 4, 1, 0] rfl)
    · skip
      have c_35 : ¬ (Int32.toInt 0 ≤ Int32.toInt i ∧ Int32.toInt i ≤ Int32.toInt ((nI (mostV (GL K n st) P)) - 1)) := of_decide_eq_false c_35
      have c_35 : ¬ (0 ≤ i.toInt ∧ i.toInt ≤ (mostV (GL K n st) P : Int) - 1) := by rw [nI_m1 (n := mostV (GL K n st) P) (by omega)] at c_35; exact c_35
      refine lv_if_ne (tgt := 48) hxR hbR dX0_mostOf_38 (by decide) (fun c => absurd c (by decide)) (fun _ => ?_)
      refine lv_aload_n hxR hbR dX0_mostOf_41 rfl (lv_at hl 0 rfl) ?_
      refine lv_bipush (v := (-5)) hxR hbR dX0_mostOf_42 (by decide) ?_
      refine kVI (n := 1) (As := [.int (-5)]) (rest := []) (fun w => w ++ (gW E adg (va_up ivg 5 (nI ((GL K n st).length))) (wrL grg 0 (GL K n st)) (wrL pag 0 ((GL K n st).map pairN)) mo2_19 sg2_19 (some (adn 10)) ++ (tW E adn ivn hrn csn (sK K)))) hxR hbR hmlR hts hown hK hA hl.1 (isCtx.suf _) hI (c0_no l E ad iv ch rd tp rf hd (adn 10) tr (adg 8) dy im (-5) 5 (by decide) (by decide)) (lw_V q396 q398 qs2 q81 q399) ⟨rfl, by decide +kernel⟩ 8 0 rfl rfl xW_o rfl (Nat.le_of_ble_eq_true rfl) (Nat.le_of_ble_eq_true rfl) ⟨Nat.le_of_ble_eq_true rfl, Nat.le_of_ble_eq_true rfl⟩ (Nat.le_of_ble_eq_true rfl) dX0_mostOf_44 (fun r_44 u H locs hp hI hz => ?_)
      have hI : wI E AR sR H locs (xW E ad iv ch rd tp (va_up rf 5 (rf 5 + 1)) hd (adn 10) tr (adg 8) dy im ++ (gW E adg (va_up ivg 5 (nI ((GL K n st).length))) (wrL grg 0 (GL K n st)) (wrL pag 0 ((GL K n st).map pairN)) mo2_19 sg2_19 (some (adn 10)) ++ (tW E adn ivn hrn csn (sK K)))) := hI
      have hp : r_44 = (-5) := hp
      have hr_44 := hp
      subst hr_44
      have hC : mostOfC K n st (nI P) i = (-5) := by
        clear hret hI
        unfold mostOfC; rw [if_pos c_5]; simp only [nI_clamp (n := P) (by omega)]; rw [if_neg (by omega)]
      have erf : bumpR rf (mostOfC K n st (nI P) i) = va_up rf 5 (rf 5 + 1) := by rw [hC]; exact bump_5 _
      have hI := wI_w (ws' := xW E ad iv ch rd tp (bumpR rf (mostOfC K n st (nI P) i)) hd (adn 10) tr (adg 8) dy im ++ (gW E adg (va_up ivg 5 (nI ((GL K n st).length))) (wrL grg 0 (GL K n st)) (wrL pag 0 ((GL K n st).map pairN)) mo2_19 sg2_19 (some (adn 10)) ++ (tW E adn ivn hrn csn (sK K)))) (by rw [erf]; try rfl) hI
      exact hret (mo2_19, sg2_19, nI ((GL K n st).length), wrL grg 0 (GL K n st), wrL pag 0 ((GL K n st).map pairN), some (adn 10)) (-5) _ _ 0 0 _ _ dX0_mostOf_47 hI (by show (-5) = gd (mostOfC K n st (nI P) i) (nI (bestL (GL K n st) (moL (GL K n st) (nI P).toNatClampNeg i.toNatClampNeg) (GL K n st))) (mostOfC K n st (nI P) i); rw [hC]; first | rfl | (simp only [nI_clamp (n := P) (by omega)]; rfl) | (simp only [gd_0, nI_clamp (n := P) (by omega)]; split <;> first | rfl | contradiction)) (Nat.le_of_ble_eq_true rfl) (Nat.le_of_ble_eq_true rfl) rfl
  · skip
    have c_5 : ¬ (0 ≤ Int32.toInt x ∧ Int32.toInt x < ((2 ^ n : Nat) : Int)) := of_decide_eq_false c_5
    refine lv_if_ne (tgt := 18) hxR hbR dX0_mostOf_8 (by decide) (fun c => absurd c (by decide)) (fun _ => ?_)
    refine lv_aload_n hxR hbR dX0_mostOf_11 rfl (lv_at hl 0 rfl) ?_
    refine lv_bipush (v := (-2)) hxR hbR dX0_mostOf_12 (by decide) ?_
    refine kVI (n := 1) (As := [.int (-2)]) (rest := []) (fun w => w ++ (gW E adg ivg grg pag mog sgg tng ++ (tW E adn ivn hrn csn (sK K)))) hxR hbR hmlR hts hown hK hA hl.1 (isCtx.suf _) hI (c0_no l E ad iv ch rd tp rf hd (adn 10) tr (adg 8) dy im (-2) 2 (by decide) (by decide)) (lw_V q396 q398 qs2 q81 q399) ⟨rfl, by decide +kernel⟩ 8 0 rfl rfl xW_o rfl (Nat.le_of_ble_eq_true rfl) (Nat.le_of_ble_eq_true rfl) ⟨Nat.le_of_ble_eq_true rfl, Nat.le_of_ble_eq_true rfl⟩ (Nat.le_of_ble_eq_true rfl) dX0_mostOf_14 (fun r_14 u H locs hp hI hz => ?_)
    have hI : wI E AR sR H locs (xW E ad iv ch rd tp (va_up rf 2 (rf 2 + 1)) hd (adn 10) tr (adg 8) dy im ++ (gW E adg ivg grg pag mog sgg tng ++ (tW E adn ivn hrn csn (sK K)))) := hI
    have hp : r_14 = (-2) := hp
    have hr_14 := hp
    subst hr_14
    have hC : mostOfC K n st x i = (-2) := by
      clear hret hI
      unfold mostOfC; rw [if_neg c_5]
    have erf : bumpR rf (mostOfC K n st x i) = va_up rf 2 (rf 2 + 1) := by rw [hC]; exact bump_2 _
    have hI := wI_w (ws' := xW E ad iv ch rd tp (bumpR rf (mostOfC K n st x i)) hd (adn 10) tr (adg 8) dy im ++ (gW E adg (va_up ivg 5 (ivg 5)) grg pag mog sgg tng ++ (tW E adn ivn hrn csn (sK K)))) (by rw [erf, va_up_id (f := ivg) (k := 5) (v := ivg 5) rfl]; try rfl) hI
    exact hret (mog, sgg, ivg 5, grg, pag, tng) (-2) _ _ 0 0 _ _ dX0_mostOf_17 hI (by show (-2) = gd (mostOfC K n st x i) (nI (bestL (GL K n st) (moL (GL K n st) x.toNatClampNeg i.toNatClampNeg) (GL K n st))) (mostOfC K n st x i); rw [hC]; first | rfl | (simp only [gd_0]; split <;> first | rfl | contradiction)) (Nat.le_of_ble_eq_true rfl) (Nat.le_of_ble_eq_true rfl) rfl
