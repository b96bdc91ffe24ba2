theorem c2_of (l : Launch) (E : En) (ad : Nat → Nat) (iv : Nat → Int32) (gr : Nat → Int32) (pa : Nat → Int32) (mo : Nat → Int32) (sg : Nat → Int32) (tn : Option Nat) (adn : Nat → Nat) (ivn : Nat → Int32) (hrn : Nat → Int32) (csn : Nat → Int32) (K : Nat → Nat → Int32) (n st : Nat) (hn : ivn 3 = nI n) (hst : ivn 4 = nI st) (hn7 : n ≤ 7) (hs2 : 2 ≤ st) (hs4 : st ≤ 4) (hsym : kSym K n) : CtT l E yX2_of cX2_of 5 (Jvm.ClassFile.FieldType.object "ThreeStrangers$Groups") 12 0 0 [.ref (ad 8), .ref (adn 10)] (gW E ad iv gr pa mo sg tn ++ (tW E adn ivn hrn csn (sK K))) (fun (u : (Nat → Int32) × (Nat → Int32)) => (∀ Z, Z < 2 ^ n → u.1 Z = nI (mostV (GL K n st) Z)) ∧ (∀ p, p < n → u.2 p = nI (strS K p n))) (fun (u : (Nat → Int32) × (Nat → Int32)) => gW E ad (va_up iv 5 (nI ((GL K n st).length))) (wrL gr 0 (GL K n st)) (wrL pa 0 ((GL K n st).map pairN)) u.1 u.2 (some (adn 10)) ++ (tW E adn ivn hrn csn (sK K))) (fun (u : (Nat → Int32) × (Nat → Int32)) => ad 8) := by
  have h27 : 2 ^ n ≤ 2 ^ 7 := Nat.pow_le_pow_right (by decide) hn7
  have h1n := Nat.one_le_two_pow (n := n)
  refine CtT.of (by decide +kernel) (Nat.le_of_ble_eq_true rfl) (by first | exact Or.inl ⟨_, rfl⟩ | exact Or.inr ⟨_, rfl⟩) ?_
  intro pR eR sR mR aR bR tR cR AR ls QR hxR hbR hmlR hts hown hlk hnm hA hK hI hl hret
  have hl : lv_has ls 5 [(0, .ref (ad 8)), (1, .ref (adn 10))] := hl
  refine lv_aload_n hxR hbR dX2_of_0 rfl (lv_at hl 0 rfl) ?_
  refine lv_aload_n hxR hbR dX2_of_1 rfl (lv_at hl 1 rfl) ?_
  refine r_put (v := .ref (adn 10)) (ws1 := gW E ad iv gr pa mo sg (some (adn 10)) ++ (tW E adn ivn hrn csn (sK K))) hxR hbR hts hown hK hI okX2 (ci := 2) rfl 0 (he_l gW_o) 4 (by decide) q194 rfl rfl rfl rfl (Nat.le_of_ble_eq_true rfl) (hw_l (Nat.le_of_ble_eq_true rfl) gW_r4) dX2_of_2 (fun H locs hI => ?_)
  refine lv_aload_n hxR hbR dX2_of_5 rfl (lv_at hl 0 rfl) ?_
  refine lv_iconst (v := 0) hxR hbR dX2_of_6 (by decide) ?_
  refine r_put (v := .int 0) (ws1 := gW E ad (va_up iv 5 0) gr pa mo sg (some (adn 10)) ++ (tW E adn ivn hrn csn (sK K))) hxR hbR hts hown hK hI okX2 (ci := 2) rfl 0 (he_l gW_o) 5 (by decide) q195 rfl rfl rfl rfl (Nat.le_of_ble_eq_true rfl) (hw_l (Nat.le_of_ble_eq_true rfl) gW_i5) dX2_of_7 (fun H locs hI => ?_)
  refine lv_iconst (v := 0) hxR hbR dX2_of_10 (by decide) ?_
  refine lv_istore_n (lv' := [(2, .int 0), (0, .ref (ad 8)), (1, .ref (adn 10))]) hxR hbR dX2_of_11 rfl hl (by decide) rfl (fun ls hl => ?_)
  have lp_12 : ∀ (fu : Nat) (p : Nat) (sgx : Nat → Int32), (p ≤ n) → (∀ q, q < p → sgx q = nI (strS K q n)) → n - p < fu → ∀ (H : Heap) (locs : List Loc), wI E AR sR H locs (gW E ad (va_up iv 5 0) gr pa mo sgx (some (adn 10)) ++ (tW E adn ivn hrn csn (sK K))) → ∀ ls : Array Slot, lv_has ls 5 [(0, .ref (ad 8)), (1, .ref (adn 10)), (2, .int (nI p))] → W pR l eR (rmF 12 0 0) sR mR aR bR tR cR H locs 0 0 QR (F0 mR 12 ls []) := by
    intro fu
    induction fu with
    | zero =>
      intro p sgx hp hsx hfu
      exact absurd hfu (Nat.not_lt_zero _)
    | succ fu ih_12 =>
      intro p sgx hp hsx hfu H locs hI ls hl
      refine lv_iload_n hxR hbR dX2_of_12 rfl (lv_at hl 2 rfl) ?_
      refine lv_aload_n hxR hbR dX2_of_13 rfl (lv_at hl 0 rfl) ?_
      refine r_get hxR hbR hts hown hK hI okX2 (ci := 2) rfl 0 (he_l gW_o) 4 (by decide) q194 rfl (v := .ref (adn 10)) rfl dX2_of_14 ?_
      refine r_get hxR hbR hts hown hK hI okX1 (ci := 1) rfl (5 + 0) (he_r (Nat.le_of_ble_eq_true rfl) (Nat.le_of_ble_eq_true rfl) tW_o) 3 (by decide) q140 rfl (v := .int (nI n)) (al hn) dX2_of_17 ?_
      refine lv_icmp_ge (tgt := 43) hxR hbR dX2_of_20 (by decide) (fun c_20 => ?_) (fun c_20 => ?_)
      · skip
        have c_20 : n ≤ p := (n_le (a := n) (b := p) (by omega) (by omega)).mp c_20
        refine lv_aload_n hxR hbR dX2_of_43 rfl (lv_at hl 0 rfl) ?_
        refine lv_iconst (v := 0) hxR hbR dX2_of_44 (by decide) ?_
        refine lv_iconst (v := 0) hxR hbR dX2_of_45 (by decide) ?_
        refine lv_aload_n hxR hbR dX2_of_46 rfl (lv_at hl 0 rfl) ?_
        refine r_get hxR hbR hts hown hK hI okX2 (ci := 2) rfl 0 (he_l gW_o) 4 (by decide) q194 rfl (v := .ref (adn 10)) rfl dX2_of_47 ?_
        refine kVI (n := 0) (As := []) (rest := [.int 0, .int 0, .ref (ad 8)]) (fun w => (gW E ad (va_up iv 5 0) gr pa mo sgx (some (adn 10))) ++ w) hxR hbR hmlR hts hown hK hA hl.1 (isCtx.pre _) hI (c1_all l E adn ivn hrn csn K n hn (by first | omega | with_reducible assumption)) (lw_V q642 q643 q644 q82 q645) ⟨rfl, by decide +kernel⟩ 0 1 rfl rfl tW_o rfl (Nat.le_of_ble_eq_true rfl) (Nat.le_of_ble_eq_true rfl) ⟨Nat.le_of_ble_eq_true rfl, Nat.le_of_ble_eq_true rfl⟩ (Nat.le_of_ble_eq_true rfl) dX2_of_50 (fun r_50 u H locs hp hI hz => ?_)
        have hI : wI E AR sR H locs (gW E ad (va_up iv 5 0) gr pa mo sgx (some (adn 10)) ++ (tW E adn ivn hrn csn (sK K))) := hI
        have hp : r_50 = nI (2 ^ n - 1) := hp
        have hr_50 := hp
        subst hr_50
        refine kVV (n := 3) (As := [.int 0, .int 0, .int (nI (2 ^ n - 1))]) (rest := []) (fun w => w) hxR hbR hmlR hts hown hK hA hl.1 isCtx.id hI (c2_adds l E n ad (va_up iv 5 0) gr pa mo sgx adn ivn hrn csn K n st 0 0 (2 ^ n - 1) 0 0 va_up_s hn hst (by first | omega | with_reducible assumption) (by first | omega | with_reducible assumption) (by first | omega | with_reducible assumption) (fun p hp => hsx p (by omega)) rfl (by first | omega | with_reducible assumption) (Nat.two_pow_pos 0) rfl (by first | omega | with_reducible assumption) (by first | omega | with_reducible assumption) mayM_all (by have := chs_35 n hn7 st hs4; rw [Nat.sub_zero]; omega)) (lw_V q646 q648 qs6 q83 q649) ⟨rfl, by decide +kernel⟩ 0 2 rfl rfl (he_l gW_o) rfl (by omega) (Nat.le_of_ble_eq_true rfl) ⟨Nat.le_of_ble_eq_true rfl, Nat.le_of_ble_eq_true rfl⟩ (Nat.le_of_ble_eq_true rfl) dX2_of_53 (fun u H locs hp hI hz => ?_)
        have hI : wI E AR sR H locs (gW E ad (va_up (va_up iv 5 0) 5 (nI (0 + (gF (okM K) n st n 0 0).length))) (wrL gr 0 (gF (okM K) n st n 0 0)) (wrL pa 0 ((gF (okM K) n st n 0 0).map pairN)) mo sgx (some (adn 10)) ++ (tW E adn ivn hrn csn (sK K))) := hI
        have hI := wI_w (ws' := gW E ad (va_up iv 5 (nI (0 + (gF (okM K) n st n 0 0).length))) (wrL gr 0 (gF (okM K) n st n 0 0)) (wrL pa 0 ((gF (okM K) n st n 0 0).map pairN)) mo sgx (some (adn 10)) ++ (tW E adn ivn hrn csn (sK K))) (by rw [(show (va_up iv 5 (nI (0 + (gF (okM K) n st n 0 0).length))) = (va_up (va_up iv 5 0) 5 (nI (0 + (gF (okM K) n st n 0 0).length))) from (up_0).symm)]) hI
        have hI : wI E AR sR H locs (gW E ad (va_up iv 5 (nI (0 + (gF (okM K) n st n 0 0).length))) (wrL gr 0 (gF (okM K) n st n 0 0)) (wrL pa 0 ((gF (okM K) n st n 0 0).map pairN)) mo sgx (some (adn 10)) ++ (tW E adn ivn hrn csn (sK K))) := hI
        have hI : wI E AR sR H locs (gW E ad (va_up iv 5 (nI ((GL K n st).length))) (wrL gr 0 (GL K n st)) (wrL pa 0 ((GL K n st).map pairN)) mo sgx (some (adn 10)) ++ (tW E adn ivn hrn csn (sK K))) := by rw [Nat.zero_add] at hI; exact hI
        have hL := gL_wr (f := gr) (K := K) hn7 hs2 hs4
        have hl35 := hL.2.1
        refine lv_iconst (v := 0) hxR hbR dX2_of_56 (by decide) ?_
        refine lv_istore_n (lv' := [(2, .int 0), (0, .ref (ad 8)), (1, .ref (adn 10))]) hxR hbR dX2_of_57 rfl hl (by decide) rfl (fun ls hl => ?_)
        have lp_58 : ∀ (fu : Nat) (z : Nat) (mox : Nat → Int32), (z ≤ 2 ^ n) → (∀ Z, Z < z → mox Z = nI (mostV (GL K n st) Z)) → 2 ^ n - z < fu → ∀ (H : Heap) (locs : List Loc), wI E AR sR H locs (gW E ad (va_up iv 5 (nI ((GL K n st).length))) (wrL gr 0 (GL K n st)) (wrL pa 0 ((GL K n st).map pairN)) mox sgx (some (adn 10)) ++ (tW E adn ivn hrn csn (sK K))) → ∀ ls : Array Slot, lv_has ls 5 [(0, .ref (ad 8)), (1, .ref (adn 10)), (2, .int (nI z))] → W pR l eR (rmF 12 0 0) sR mR aR bR tR cR H locs 0 0 QR (F0 mR 58 ls []) := by
          intro fu
          induction fu with
          | zero =>
            intro z mox hz9 hmx hfu
            exact absurd hfu (Nat.not_lt_zero _)
          | succ fu ih_58 =>
            intro z mox hz9 hmx hfu H locs hI ls hl
            refine lv_iload_n hxR hbR dX2_of_58 rfl (lv_at hl 2 rfl) ?_
            refine lv_aload_n hxR hbR dX2_of_59 rfl (lv_at hl 0 rfl) ?_
            refine r_get hxR hbR hts hown hK hI okX2 (ci := 2) rfl 0 (he_l gW_o) 4 (by decide) q194 rfl (v := .ref (adn 10)) rfl dX2_of_60 ?_
            refine kVI (n := 0) (As := []) (rest := [.int (nI z)]) (fun w => (gW E ad (va_up iv 5 (nI ((GL K n st).length))) (wrL gr 0 (GL K n st)) (wrL pa 0 ((GL K n st).map pairN)) mox sgx (some (adn 10))) ++ w) hxR hbR hmlR hts hown hK hA hl.1 (isCtx.pre _) hI (c1_all l E adn ivn hrn csn K n hn (by first | omega | with_reducible assumption)) (lw_V q642 q643 q644 q82 q645) ⟨rfl, by decide +kernel⟩ 0 1 rfl rfl tW_o rfl (Nat.le_of_ble_eq_true rfl) (Nat.le_of_ble_eq_true rfl) ⟨Nat.le_of_ble_eq_true rfl, Nat.le_of_ble_eq_true rfl⟩ (Nat.le_of_ble_eq_true rfl) dX2_of_63 (fun r_63 u H locs hp hI hz => ?_)
            have hI : wI E AR sR H locs (gW E ad (va_up iv 5 (nI ((GL K n st).length))) (wrL gr 0 (GL K n st)) (wrL pa 0 ((GL K n st).map pairN)) mox sgx (some (adn 10)) ++ (tW E adn ivn hrn csn (sK K))) := hI
            have hp : r_63 = nI (2 ^ n - 1) := hp
            have hr_63 := hp
            subst hr_63
            refine lv_icmp_gt (tgt := 139) hxR hbR dX2_of_66 (by decide) (fun c_66 => ?_) (fun c_66 => ?_)
            · skip
              have c_66 : (2 ^ n - 1) < z := (n_lt (a := (2 ^ n - 1)) (b := z) (by omega) (by omega)).mp c_66
              refine lv_aload_n hxR hbR dX2_of_139 rfl (lv_at hl 0 rfl) ?_
              exact hret (mox, sgx) _ _ _ _ _ _ dX2_of_140 hI ⟨fun Z hZ => hmx Z (by omega), fun p hp => hsx p (by omega)⟩ (Nat.le_of_ble_eq_true rfl) (Nat.le_of_ble_eq_true rfl)
            · skip
              have c_66 : z ≤ (2 ^ n - 1) := Nat.le_of_not_lt (fun zz => c_66 ((n_lt (a := (2 ^ n - 1)) (b := z) (by omega) (by omega)).mpr zz))
              refine lv_iconst (v := 0) hxR hbR dX2_of_69 (by decide) ?_
              refine lv_istore_n (lv' := [(3, .int 0), (0, .ref (ad 8)), (1, .ref (adn 10)), (2, .int (nI z))]) hxR hbR dX2_of_70 rfl hl (by decide) rfl (fun ls hl => ?_)
              refine lv_iconst (v := 0) hxR hbR dX2_of_71 (by decide) ?_
              refine lv_istore (lv' := [(4, .int 0), (3, .int 0), (0, .ref (ad 8)), (1, .ref (adn 10)), (2, .int (nI z))]) hxR hbR dX2_of_72 hl (by decide) rfl (fun ls hl => ?_)
              have lp_74 : ∀ (fu : Nat) (b : Nat) (g : Nat), (g ≤ (GL K n st).length) → (((GL K n st).drop g).foldl (mostG (GL K n st) z) b = mostV (GL K n st) z) → (b ≤ z) → (GL K n st).length - g < fu → ∀ (H : Heap) (locs : List Loc), wI E AR sR H locs (gW E ad (va_up iv 5 (nI ((GL K n st).length))) (wrL gr 0 (GL K n st)) (wrL pa 0 ((GL K n st).map pairN)) mox sgx (some (adn 10)) ++ (tW E adn ivn hrn csn (sK K))) → ∀ ls : Array Slot, lv_has ls 5 [(0, .ref (ad 8)), (1, .ref (adn 10)), (2, .int (nI z)), (3, .int (nI b)), (4, .int (nI g))] → W pR l eR (rmF 12 0 0) sR mR aR bR tR cR H locs 0 0 QR (F0 mR 74 ls []) := by
                intro fu
                induction fu with
                | zero =>
                  intro b g hg hbb hbz hfu
                  exact absurd hfu (Nat.not_lt_zero _)
                | succ fu ih_74 =>
                  intro b g hg hbb hbz hfu H locs hI ls hl
                  refine lv_iload hxR hbR dX2_of_74 (lv_at hl 4 rfl) ?_
                  refine lv_aload_n hxR hbR dX2_of_76 rfl (lv_at hl 0 rfl) ?_
                  refine r_get hxR hbR hts hown hK hI okX2 (ci := 2) rfl 0 (he_l gW_o) 5 (by decide) q195 rfl (v := .int (nI ((GL K n st).length))) (al va_up_s) dX2_of_77 ?_
                  refine lv_icmp_ge (tgt := 126) hxR hbR dX2_of_80 (by decide) (fun c_80 => ?_) (fun c_80 => ?_)
                  · skip
                    have c_80 : ((GL K n st).length) ≤ g := (n_le (a := ((GL K n st).length)) (b := g) (by omega) (by omega)).mp c_80
                    refine lv_aload_n hxR hbR dX2_of_126 rfl (lv_at hl 0 rfl) ?_
                    refine r_get hxR hbR hts hown hK hI okX2 (ci := 2) rfl 0 (he_l gW_o) 2 (by decide) q192 rfl (v := .ref (ad 2)) rfl dX2_of_127 ?_
                    refine lv_iload_n hxR hbR dX2_of_130 rfl (lv_at hl 2 rfl) ?_
                    refine lv_iload_n hxR hbR dX2_of_131 rfl (lv_at hl 3 rfl) ?_
                    refine r_iast (ws1 := gW E ad (va_up iv 5 (nI ((GL K n st).length))) (wrL gr 0 (GL K n st)) (wrL pa 0 ((GL K n st).map pairN)) (va_up mox z (nI b)) sgx (some (adn 10)) ++ (tW E adn ivn hrn csn (sK K))) hxR hbR hK hI 3 (n := 128) (J := z) (f := mox) (he_l (gW_g2 rfl)) (by omega) (by decide) (hw_l (Nat.le_of_ble_eq_true rfl) gW_a2) dX2_of_132 (fun H locs hI => ?_)
                    refine lv_iinc (v := nI (z + 1)) (lv' := [(2, .int (nI (z + 1))), (0, .ref (ad 8)), (1, .ref (adn 10)), (3, .int (nI b)), (4, .int (nI g))]) hxR hbR dX2_of_133 hl (k := 2) rfl (show nI z + 1 = nI (z + 1) from nI_add _ 1) (by decide) rfl (fun ls hl => ?_)
                    refine lv_goto (tgt := 58) hxR hbR dX2_of_136 (by decide) ?_
                    exact ih_58 (z + 1) (va_up mox z (nI b)) (by first | omega | with_reducible assumption) (by rw [fold_e (by omega) hbb]; exact up_all hmx) (by omega) _ _ hI _ (lv_sub hl [1, 2, 0] rfl)
                  · skip
                    have c_80 : g < ((GL K n st).length) := Nat.lt_of_not_le (fun zz => c_80 ((n_le (a := ((GL K n st).length)) (b := g) (by omega) (by omega)).mpr zz))
                    refine lv_aload_n hxR hbR dX2_of_83 rfl (lv_at hl 0 rfl) ?_
                    refine lv_iload hxR hbR dX2_of_84 (lv_at hl 4 rfl) ?_
                    refine lv_iload_n hxR hbR dX2_of_86 rfl (lv_at hl 2 rfl) ?_
                    refine kVI (n := 2) (As := [.int (nI g), .int (nI z)]) (rest := []) (fun w => w ++ (tW E adn ivn hrn csn (sK K))) hxR hbR hmlR hts hown hK hA hl.1 (isCtx.suf _) hI (c2_isOf l E ad (va_up iv 5 (nI ((GL K n st).length))) (wrL gr 0 (GL K n st)) (wrL pa 0 ((GL K n st).map pairN)) mox sgx (some (adn 10)) (GL K n st) g z va_up_s (by first | omega | with_reducible assumption) (by first | omega | with_reducible assumption) (by first | omega | with_reducible assumption)) (lw_V q662 q663 q664 q83 q665) ⟨rfl, by decide +kernel⟩ 0 2 rfl rfl gW_o rfl (Nat.le_of_ble_eq_true rfl) (Nat.le_of_ble_eq_true rfl) ⟨Nat.le_of_ble_eq_true rfl, Nat.le_of_ble_eq_true rfl⟩ (Nat.le_of_ble_eq_true rfl) dX2_of_87 (fun r_87 u H locs hp hI hz => ?_)
                    have hI : wI E AR sR H locs (gW E ad (va_up iv 5 (nI ((GL K n st).length))) (wrL gr 0 (GL K n st)) (wrL pa 0 ((GL K n st).map pairN)) mox sgx (some (adn 10)) ++ (tW E adn ivn hrn csn (sK K))) := hI
                    have hp : r_87 = b2i (decide (nd ((GL K n st).getD g 0) z = 0)) := hp
                    have hr_87 := hp
                    rcases b2i_cases hr_87 with ⟨c_87, rfl⟩ | ⟨c_87, rfl⟩
                    · skip
                      have c_87 : nd ((GL K n st).getD g 0) z = 0 := of_decide_eq_true c_87
                      have hlt := nd_lt c_87 (hL.ne c_80)
                      have hm := mostV_le hL.nz (nd z ((GL K n st).getD g 0))
                      refine lv_if_eq (tgt := 118) hxR hbR dX2_of_90 (by decide) (fun c => absurd c (by decide)) (fun _ => ?_)
                      refine lv_iload_n hxR hbR dX2_of_93 rfl (lv_at hl 3 rfl) ?_
                      refine lv_iconst (v := 1) hxR hbR dX2_of_94 (by decide) ?_
                      refine lv_aload_n hxR hbR dX2_of_95 rfl (lv_at hl 0 rfl) ?_
                      refine r_get hxR hbR hts hown hK hI okX2 (ci := 2) rfl 0 (he_l gW_o) 2 (by decide) q192 rfl (v := .ref (ad 2)) rfl dX2_of_96 ?_
                      refine lv_iload_n hxR hbR dX2_of_99 rfl (lv_at hl 2 rfl) ?_
                      refine lv_aload_n hxR hbR dX2_of_100 rfl (lv_at hl 0 rfl) ?_
                      refine r_get hxR hbR hts hown hK hI okX2 (ci := 2) rfl 0 (he_l gW_o) 0 (by decide) q188 rfl (v := .ref (ad 0)) rfl dX2_of_101 ?_
                      refine lv_iload hxR hbR dX2_of_104 (lv_at hl 4 rfl) ?_
                      refine r_iald hxR hbR hK hI 1 (n := 35) (J := g) (f := wrL gr 0 (GL K n st)) (v := nI ((GL K n st).getD g 0)) (he_l (gW_g0 rfl)) (by omega) (by decide) (hL.at (by omega)) dX2_of_106 ?_
                      refine lv_iconst (v := (-1)) hxR hbR dX2_of_107 (by decide) ?_
                      refine lv_ixor hxR hbR dX2_of_108 ?_
                      refine lv_iand hxR hbR dX2_of_109 ?_
                      refine lv_as (y := nI (nd z ((GL K n st).getD g 0))) (nb_nd z ((GL K n st).getD g 0)) ?_
                      refine r_iald hxR hbR hK hI 3 (n := 128) (J := nd z ((GL K n st).getD g 0)) (f := mox) (v := nI (mostV (GL K n st) (nd z ((GL K n st).getD g 0)))) (he_l (gW_g2 rfl)) (by omega) (by decide) (hmx _ (by omega)) dX2_of_110 ?_
                      refine lv_iadd hxR hbR dX2_of_111 ?_
                      refine lv_as (y := nI (1 + (mostV (GL K n st) (nd z ((GL K n st).getD g 0))))) (nI_add 1 (mostV (GL K n st) (nd z ((GL K n st).getD g 0)))) ?_
                      refine va_mmax hxR hbR (by rw [hmlR]; exact hl.1.symm) hown (hts _ q666) (hts _ q667) (hts _ q106) (hts _ q668) (Nat.le_of_ble_eq_true rfl) (Nat.le_of_ble_eq_true rfl) (by omega) (by omega) dX2_of_112 ?_
                      refine lv_as (y := nI (max b (1 + (mostV (GL K n st) (nd z ((GL K n st).getD g 0)))))) (mx_n (by omega) (by omega)) ?_
                      refine lv_goto (tgt := 119) hxR hbR dX2_of_115 (by decide) ?_
                      refine lv_istore_n (lv' := [(3, .int (nI (max b (1 + (mostV (GL K n st) (nd z ((GL K n st).getD g 0))))))), (0, .ref (ad 8)), (1, .ref (adn 10)), (2, .int (nI z)), (4, .int (nI g))]) hxR hbR dX2_of_119 rfl hl (by decide) rfl (fun ls hl => ?_)
                      refine lv_iinc (v := nI (g + 1)) (lv' := [(4, .int (nI (g + 1))), (3, .int (nI (max b (1 + (mostV (GL K n st) (nd z ((GL K n st).getD g 0))))))), (0, .ref (ad 8)), (1, .ref (adn 10)), (2, .int (nI z))]) hxR hbR dX2_of_120 hl (k := 4) rfl (show nI g + 1 = nI (g + 1) from nI_add _ 1) (by decide) rfl (fun ls hl => ?_)
                      refine lv_goto (tgt := 74) hxR hbR dX2_of_123 (by decide) ?_
                      exact ih_74 (max b (1 + (mostV (GL K n st) (nd z ((GL K n st).getD g 0))))) (g + 1) (by first | omega | with_reducible assumption) (by first | exact (mostG_n (b := b) c_87) ▸ fold_d c_80 hbb | (rw [mostG_m c_87]; exact fold_d c_80 hbb)) (by first | omega | with_reducible assumption) (by omega) _ _ hI _ (lv_sub hl [2, 3, 4, 1, 0] rfl)
                    · skip
                      have c_87 : ¬ nd ((GL K n st).getD g 0) z = 0 := of_decide_eq_false c_87
                      refine lv_if_eq (tgt := 118) hxR hbR dX2_of_90 (by decide) (fun _ => ?_) (fun c => absurd c (by decide))
                      refine lv_iload_n hxR hbR dX2_of_118 rfl (lv_at hl 3 rfl) ?_
                      refine lv_istore_n (lv' := [(3, .int (nI b)), (0, .ref (ad 8)), (1, .ref (adn 10)), (2, .int (nI z)), (4, .int (nI g))]) hxR hbR dX2_of_119 rfl hl (by decide) rfl (fun ls hl => ?_)
                      refine lv_iinc (v := nI (g + 1)) (lv' := [(4, .int (nI (g + 1))), (3, .int (nI b)), (0, .ref (ad 8)), (1, .ref (adn 10)), (2, .int (nI z))]) hxR hbR dX2_of_120 hl (k := 4) rfl (show nI g + 1 = nI (g + 1) from nI_add _ 1) (by decide) rfl (fun ls hl => ?_)
                      refine lv_goto (tgt := 74) hxR hbR dX2_of_123 (by decide) ?_
                      exact ih_74 b (g + 1) (by first | omega | with_reducible assumption) (by first | exact (mostG_n (b := b) c_87) ▸ fold_d c_80 hbb | (rw [mostG_m c_87]; exact fold_d c_80 hbb)) (by first | omega | with_reducible assumption) (by omega) _ _ hI _ (lv_sub hl [2, 3, 4, 1, 0] rfl)
              exact lp_74 _ 0 0 (by first | omega | with_reducible assumption) (mostV_G hL.nz z).symm (by first | omega | with_reducible assumption) (Nat.lt_succ_self _) _ _ hI _ (lv_sub hl [2, 3, 4, 1, 0] rfl)
        exact lp_58 _ 0 mo (by first | omega | with_reducible assumption) (fun j h => absurd h (Nat.not_lt_zero _)) (Nat.lt_succ_self _) _ _ hI _ (lv_sub hl [1, 2, 0] rfl)
      · skip
        have c_20 : p < n := Nat.lt_of_not_le (fun zz => c_20 ((n_le (a := n) (b := p) (by omega) (by omega)).mpr zz))
        refine lv_aload_n hxR hbR dX2_of_23 rfl (lv_at hl 0 rfl) ?_
        refine r_get hxR hbR hts hown hK hI okX2 (ci := 2) rfl 0 (he_l gW_o) 3 (by decide) q193 rfl (v := .ref (ad 3)) rfl dX2_of_24 ?_
        refine lv_iload_n hxR hbR dX2_of_27 rfl (lv_at hl 2 rfl) ?_
        refine lv_aload_n hxR hbR dX2_of_28 rfl (lv_at hl 0 rfl) ?_
        refine r_get hxR hbR hts hown hK hI okX2 (ci := 2) rfl 0 (he_l gW_o) 4 (by decide) q194 rfl (v := .ref (adn 10)) rfl dX2_of_29 ?_
        refine lv_iload_n hxR hbR dX2_of_32 rfl (lv_at hl 2 rfl) ?_
        refine kVI (n := 1) (As := [.int (nI p)]) (rest := [.int (nI p), .ref (ad 3)]) (fun w => (gW E ad (va_up iv 5 0) gr pa mo sgx (some (adn 10))) ++ w) hxR hbR hmlR hts hown hK hA hl.1 (isCtx.pre _) hI (c1_strangers l E adn ivn hrn csn K n p hn (by first | omega | with_reducible assumption) (by first | omega | with_reducible assumption)) (lw_V q634 q635 q636 q82 q637) ⟨rfl, by decide +kernel⟩ 0 1 rfl rfl tW_o rfl (Nat.le_of_ble_eq_true rfl) (Nat.le_of_ble_eq_true rfl) ⟨Nat.le_of_ble_eq_true rfl, Nat.le_of_ble_eq_true rfl⟩ (Nat.le_of_ble_eq_true rfl) dX2_of_33 (fun r_33 u H locs hp hI hz => ?_)
        have hI : wI E AR sR H locs (gW E ad (va_up iv 5 0) gr pa mo sgx (some (adn 10)) ++ (tW E adn ivn hrn csn (sK K))) := hI
        have hp : r_33 = nI (strS K p n) := hp
        have hr_33 := hp
        subst hr_33
        refine r_iast (ws1 := gW E ad (va_up iv 5 0) gr pa mo (va_up sgx p (nI (strS K p n))) (some (adn 10)) ++ (tW E adn ivn hrn csn (sK K))) hxR hbR hK hI 4 (n := 7) (J := p) (f := sgx) (he_l (gW_g3 rfl)) (by omega) (by decide) (hw_l (Nat.le_of_ble_eq_true rfl) gW_a3) dX2_of_36 (fun H locs hI => ?_)
        refine lv_iinc (v := nI (p + 1)) (lv' := [(2, .int (nI (p + 1))), (0, .ref (ad 8)), (1, .ref (adn 10))]) hxR hbR dX2_of_37 hl (k := 2) rfl (show nI p + 1 = nI (p + 1) from nI_add _ 1) (by decide) rfl (fun ls hl => ?_)
        refine lv_goto (tgt := 12) hxR hbR dX2_of_40 (by decide) ?_
        exact ih_12 (p + 1) (va_up sgx p (nI (strS K p n))) (by first | omega | with_reducible assumption) (up_all hsx) (by omega) _ _ hI _ (lv_sub hl [1, 2, 0] rfl)
  exact lp_12 _ 0 sg (by first | omega | with_reducible assumption) (fun j h => absurd h (Nat.not_lt_zero _)) (Nat.lt_succ_self _) _ _ hI _ (lv_sub hl [1, 2, 0] rfl)
