theorem c0_leaving (l : Launch) (E : En) (ad : Nat → Nat) (iv : Nat → Int32) (ch : Nat → Int32) (rd : Nat → Int32) (tp : Nat → Int32) (rf : Nat → Int32) (hd : Nat → Option Nat) (tr : Nat) (gr : Nat) (dy : Nat) (im : Option Nat) (adn : Nat → Nat) (ivn : Nat → Int32) (hrn : Nat → Int32) (csn : Nat → Int32) (K : Nat → Nat → Int32) (n : Nat) (Z : Nat) (h : Int32) (hn : ivn 3 = nI n) (hn7 : n ≤ 7) (hZ : Z < 2 ^ 31) : CtI l E yX0_leaving cX0_leaving 5 .int 1 0 0 [.ref (ad 11), .int (nI Z), .int h] (xW E ad iv ch rd tp rf hd (adn 10) tr gr dy im ++ (tW E adn ivn hrn csn (sK K))) (fun (r : Int32) (u : Unit) => r = lvF csn hrn Z h n) (fun (u : Unit) => xW E ad iv ch rd tp rf hd (adn 10) tr gr dy im ++ (tW E adn ivn hrn csn (sK K))) := by
  refine CtI.of (by decide +kernel) (Nat.le_of_ble_eq_true rfl) ?_
  intro pR eR sR mR aR bR tR cR AR ls QR hxR hbR hmlR hts hown hlk hnm hA hK hI hl hret
  have hl : lv_has ls 5 [(0, .ref (ad 11)), (1, .int (nI Z)), (2, .int h)] := hl
  refine lv_iconst (v := 0) hxR hbR dX0_leaving_0 (by decide) ?_
  refine lv_istore_n (lv' := [(3, .int 0), (0, .ref (ad 11)), (1, .int (nI Z)), (2, .int h)]) hxR hbR dX0_leaving_1 rfl hl (by decide) rfl (fun ls hl => ?_)
  refine lv_iconst (v := 0) hxR hbR dX0_leaving_2 (by decide) ?_
  refine lv_istore (lv' := [(4, .int 0), (3, .int 0), (0, .ref (ad 11)), (1, .int (nI Z)), (2, .int h)]) hxR hbR dX0_leaving_3 hl (by decide) rfl (fun ls hl => ?_)
  have lp_5 : ∀ (fu : Nat) (i : Nat) (a : Int32), (i ≤ n) → (a = lvF csn hrn Z h i) → n - i < fu → ∀ (H : Heap) (locs : List Loc), wI E AR sR H locs (xW E ad iv ch rd tp rf hd (adn 10) tr gr dy im ++ (tW E adn ivn hrn csn (sK K))) → ∀ ls : Array Slot, lv_has ls 5 [(0, .ref (ad 11)), (1, .int (nI Z)), (2, .int h), (3, .int a), (4, .int (nI i))] → W pR l eR (rmF 1 0 0) sR mR aR bR tR cR H locs 0 0 QR (F0 mR 5 ls []) := by
    intro fu
    induction fu with
    | zero =>
      intro i a hi ha hfu
      exact absurd hfu (Nat.not_lt_zero _)
    | succ fu ih_5 =>
      intro i a hi ha hfu H locs hI ls hl
      refine lv_iload hxR hbR dX0_leaving_5 (lv_at hl 4 rfl) ?_
      refine lv_aload_n hxR hbR dX0_leaving_7 rfl (lv_at hl 0 rfl) ?_
      refine r_get hxR hbR hts hown hK hI okX0 (ci := 0) rfl 8 (he_l xW_o) 0 (by decide) q263 rfl (v := .ref (adn 10)) rfl dX0_leaving_8 ?_
      refine r_get hxR hbR hts hown hK hI okX1 (ci := 1) rfl (14 + 0) (he_r (Nat.le_of_ble_eq_true rfl) (Nat.le_of_ble_eq_true rfl) tW_o) 3 (by decide) q144 rfl (v := .int (nI n)) (al hn) dX0_leaving_11 ?_
      refine lv_icmp_ge (tgt := 62) hxR hbR dX0_leaving_14 (by decide) (fun c_14 => ?_) (fun c_14 => ?_)
      · skip
        have c_14 : n ≤ i := (n_le (a := n) (b := i) (by omega) (by omega)).mp c_14
        refine lv_iload_n hxR hbR dX0_leaving_62 rfl (lv_at hl 3 rfl) ?_
        exact hret () a _ _ _ _ _ _ dX0_leaving_63 hI (by show a = lvF csn hrn Z h n; rw [ha, show i = n by omega]) (Nat.le_of_ble_eq_true rfl) (Nat.le_of_ble_eq_true rfl) rfl
      · skip
        have c_14 : i < n := Nat.lt_of_not_le (fun zz => c_14 ((n_le (a := n) (b := i) (by omega) (by omega)).mpr zz))
        refine lv_iload_n hxR hbR dX0_leaving_17 rfl (lv_at hl 3 rfl) ?_
        refine lv_iload_n hxR hbR dX0_leaving_18 rfl (lv_at hl 1 rfl) ?_
        refine lv_iload hxR hbR dX0_leaving_19 (lv_at hl 4 rfl) ?_
        refine kSI (n := 2) (As := [.int (nI Z), .int (nI i)]) (rest := [.int a]) (fun w => w ++ (xW E ad iv ch rd tp rf hd (adn 10) tr gr dy im ++ (tW E adn ivn hrn csn (sK K)))) hxR hbR hmlR hts hown hK hA hl.1 (isCtx.suf _) hI (c0_has l E  Z i (by first | omega | with_reducible assumption) (by first | omega | with_reducible assumption)) (lw_S q1278 q660 q81 q661) (by decide +kernel) rfl (Nat.le_of_ble_eq_true rfl) (Nat.le_of_ble_eq_true rfl) ⟨Nat.le_of_ble_eq_true rfl, Nat.le_of_ble_eq_true rfl⟩ (Nat.le_of_ble_eq_true rfl) dX0_leaving_21 (fun r_21 u H locs hp hI hz => ?_)
        have hI : wI E AR sR H locs (xW E ad iv ch rd tp rf hd (adn 10) tr gr dy im ++ (tW E adn ivn hrn csn (sK K))) := hI
        have hp : r_21 = b2i (Z.testBit i) := hp
        have hr_21 := hp
        rcases b2i_cases hr_21 with ⟨c_21, rfl⟩ | ⟨c_21, rfl⟩
        · skip
          have c_21 : Z.testBit i = true := c_21
          refine lv_if_eq (tgt := 53) hxR hbR dX0_leaving_24 (by decide) (fun c => absurd c (by decide)) (fun _ => ?_)
          refine lv_aload_n hxR hbR dX0_leaving_27 rfl (lv_at hl 0 rfl) ?_
          refine r_get hxR hbR hts hown hK hI okX0 (ci := 0) rfl 8 (he_l xW_o) 0 (by decide) q263 rfl (v := .ref (adn 10)) rfl dX0_leaving_28 ?_
          refine r_get hxR hbR hts hown hK hI okX1 (ci := 1) rfl (14 + 0) (he_r (Nat.le_of_ble_eq_true rfl) (Nat.le_of_ble_eq_true rfl) tW_o) 1 (by decide) q137 rfl (v := .ref (adn 1)) rfl dX0_leaving_31 ?_
          refine lv_iload hxR hbR dX0_leaving_34 (lv_at hl 4 rfl) ?_
          refine r_iald hxR hbR hK hI (14 + 2) (n := 7) (J := i) (f := csn) (v := csn i) (he_r (Nat.le_of_ble_eq_true rfl) (Nat.le_of_ble_eq_true rfl) (tW_g1 rfl)) (by omega) (by decide) rfl dX0_leaving_36 ?_
          refine lv_iload_n hxR hbR dX0_leaving_37 rfl (lv_at hl 2 rfl) ?_
          refine lv_aload_n hxR hbR dX0_leaving_38 rfl (lv_at hl 0 rfl) ?_
          refine r_get hxR hbR hts hown hK hI okX0 (ci := 0) rfl 8 (he_l xW_o) 0 (by decide) q263 rfl (v := .ref (adn 10)) rfl dX0_leaving_39 ?_
          refine r_get hxR hbR hts hown hK hI okX1 (ci := 1) rfl (14 + 0) (he_r (Nat.le_of_ble_eq_true rfl) (Nat.le_of_ble_eq_true rfl) tW_o) 0 (by decide) q133 rfl (v := .ref (adn 0)) rfl dX0_leaving_42 ?_
          refine lv_iload hxR hbR dX0_leaving_45 (lv_at hl 4 rfl) ?_
          refine r_iald hxR hbR hK hI (14 + 1) (n := 7) (J := i) (f := hrn) (v := hrn i) (he_r (Nat.le_of_ble_eq_true rfl) (Nat.le_of_ble_eq_true rfl) (tW_g0 rfl)) (by omega) (by decide) rfl dX0_leaving_47 ?_
          refine lv_isub hxR hbR dX0_leaving_48 ?_
          refine lv_imul hxR hbR dX0_leaving_49 ?_
          refine lv_goto (tgt := 54) hxR hbR dX0_leaving_50 (by decide) ?_
          refine lv_iadd hxR hbR dX0_leaving_54 ?_
          refine lv_istore_n (lv' := [(3, .int (a + ((csn i) * (h - (hrn i))))), (0, .ref (ad 11)), (1, .int (nI Z)), (2, .int h), (4, .int (nI i))]) hxR hbR dX0_leaving_55 rfl hl (by decide) rfl (fun ls hl => ?_)
          refine lv_iinc (v := nI (i + 1)) (lv' := [(4, .int (nI (i + 1))), (3, .int (a + ((csn i) * (h - (hrn i))))), (0, .ref (ad 11)), (1, .int (nI Z)), (2, .int h)]) hxR hbR dX0_leaving_56 hl (k := 4) rfl (show nI i + 1 = nI (i + 1) from nI_add _ 1) (by decide) rfl (fun ls hl => ?_)
          refine lv_goto (tgt := 5) hxR hbR dX0_leaving_59 (by decide) ?_
          exact ih_5 (i + 1) (a + ((csn i) * (h - (hrn i)))) (by first | omega | with_reducible assumption) (by rw [ha]; first | exact (lvF_y c_21).symm | exact (lvF_n c_21).symm) (by omega) _ _ hI _ (lv_sub hl [2, 3, 4, 1, 0] rfl)
        · skip
          have c_21 : Z.testBit i = false := c_21
          refine lv_if_eq (tgt := 53) hxR hbR dX0_leaving_24 (by decide) (fun _ => ?_) (fun c => absurd c (by decide))
          refine lv_iconst (v := 0) hxR hbR dX0_leaving_53 (by decide) ?_
          refine lv_iadd hxR hbR dX0_leaving_54 ?_
          refine lv_istore_n (lv' := [(3, .int (a + 0)), (0, .ref (ad 11)), (1, .int (nI Z)), (2, .int h), (4, .int (nI i))]) hxR hbR dX0_leaving_55 rfl hl (by decide) rfl (fun ls hl => ?_)
          refine lv_iinc (v := nI (i + 1)) (lv' := [(4, .int (nI (i + 1))), (3, .int (a + 0)), (0, .ref (ad 11)), (1, .int (nI Z)), (2, .int h)]) hxR hbR dX0_leaving_56 hl (k := 4) rfl (show nI i + 1 = nI (i + 1) from nI_add _ 1) (by decide) rfl (fun ls hl => ?_)
          refine lv_goto (tgt := 5) hxR hbR dX0_leaving_59 (by decide) ?_
          exact ih_5 (i + 1) (a + 0) (by first | omega | with_reducible assumption) (by rw [ha]; first | exact (lvF_y c_21).symm | exact (lvF_n c_21).symm) (by omega) _ _ hI _ (lv_sub hl [2, 3, 4, 1, 0] rfl)
  exact lp_5 _ 0 0 (by first | omega | with_reducible assumption) rfl (Nat.lt_succ_self _) _ _ hI _ (lv_sub hl [2, 3, 4, 1, 0] rfl)

theorem c0_closesOf (l : Launch) (E : En) (ad : Nat → Nat) (iv : Nat → Int32) (ch : Nat → Int32) (rd : Nat → Int32) (tp : Nat → Int32) (rf : Nat → Int32) (hd : Nat → Option Nat) (nw : Nat) (tr : Nat) (dy : Nat) (im : Option Nat) (adg : Nat → Nat) (ivg : Nat → Int32) (grg : Nat → Int32) (pag : Nat → Int32) (mog : Nat → Int32) (sgg : Nat → Int32) (tng : Option Nat) (L : List Nat) (P Qq : Nat) (hc : ivg 5 = nI L.length) (hL : gL grg L) (hP : P < 7) (hQ : Qq < 7) : CtI l E yX0_closesOf cX0_closesOf 5 .int 1 0 0 [.ref (ad 11), .int (nI P), .int (nI Qq)] (xW E ad iv ch rd tp rf hd nw tr (adg 8) dy im ++ (gW E adg ivg grg pag mog sgg tng)) (fun (r : Int32) (u : Unit) => r = nI (clN P Qq L)) (fun (u : Unit) => xW E ad iv ch rd tp rf hd nw tr (adg 8) dy im ++ (gW E adg ivg grg pag mog sgg tng)) := by
  have hl35 := hL.2.1
  refine CtI.of (by decide +kernel) (Nat.le_of_ble_eq_true rfl) ?_
  intro pR eR sR mR aR bR tR cR AR ls QR hxR hbR hmlR hts hown hlk hnm hA hK hI hl hret
  have hl : lv_has ls 5 [(0, .ref (ad 11)), (1, .int (nI P)), (2, .int (nI Qq))] := hl
  refine lv_iconst (v := 0) hxR hbR dX0_closesOf_0 (by decide) ?_
  refine lv_istore_n (lv' := [(3, .int 0), (0, .ref (ad 11)), (1, .int (nI P)), (2, .int (nI Qq))]) hxR hbR dX0_closesOf_1 rfl hl (by decide) rfl (fun ls hl => ?_)
  refine lv_iconst (v := 0) hxR hbR dX0_closesOf_2 (by decide) ?_
  refine lv_istore (lv' := [(4, .int 0), (3, .int 0), (0, .ref (ad 11)), (1, .int (nI P)), (2, .int (nI Qq))]) hxR hbR dX0_closesOf_3 hl (by decide) rfl (fun ls hl => ?_)
  have lp_5 : ∀ (fu : Nat) (i : Nat) (a : Nat), (i ≤ L.length) → (a + clN P Qq (L.drop i) = clN P Qq L) → L.length - i < fu → ∀ (H : Heap) (locs : List Loc), wI E AR sR H locs (xW E ad iv ch rd tp rf hd nw tr (adg 8) dy im ++ (gW E adg ivg grg pag mog sgg tng)) → ∀ ls : Array Slot, lv_has ls 5 [(0, .ref (ad 11)), (1, .int (nI P)), (2, .int (nI Qq)), (3, .int (nI a)), (4, .int (nI i))] → W pR l eR (rmF 1 0 0) sR mR aR bR tR cR H locs 0 0 QR (F0 mR 5 ls []) := by
    intro fu
    induction fu with
    | zero =>
      intro i a hi ha hfu
      exact absurd hfu (Nat.not_lt_zero _)
    | succ fu ih_5 =>
      intro i a hi ha hfu H locs hI ls hl
      refine lv_iload hxR hbR dX0_closesOf_5 (lv_at hl 4 rfl) ?_
      refine lv_aload_n hxR hbR dX0_closesOf_7 rfl (lv_at hl 0 rfl) ?_
      refine r_get hxR hbR hts hown hK hI okX0 (ci := 0) rfl 8 (he_l xW_o) 3 (by decide) q267 rfl (v := .ref (adg 8)) rfl dX0_closesOf_8 ?_
      refine r_get hxR hbR hts hown hK hI okX2 (ci := 2) rfl (14 + 0) (he_r (Nat.le_of_ble_eq_true rfl) (Nat.le_of_ble_eq_true rfl) gW_o) 5 (by decide) q197 rfl (v := .int (nI L.length)) (al hc) dX0_closesOf_11 ?_
      refine lv_icmp_ge (tgt := 65) hxR hbR dX0_closesOf_14 (by decide) (fun c_14 => ?_) (fun c_14 => ?_)
      · skip
        have c_14 : L.length ≤ i := (n_le (a := L.length) (b := i) (by omega) (by omega)).mp c_14
        refine lv_iload_n hxR hbR dX0_closesOf_65 rfl (lv_at hl 3 rfl) ?_
        exact hret () (nI a) _ _ _ _ _ _ dX0_closesOf_66 hI (by show (nI a) = nI (clN P Qq L); rw [← ha, List.drop_eq_nil_of_le (by omega)]; rfl) (Nat.le_of_ble_eq_true rfl) (Nat.le_of_ble_eq_true rfl) rfl
      · skip
        have c_14 : i < L.length := Nat.lt_of_not_le (fun zz => c_14 ((n_le (a := L.length) (b := i) (by omega) (by omega)).mpr zz))
        refine lv_iload_n hxR hbR dX0_closesOf_17 rfl (lv_at hl 3 rfl) ?_
        refine lv_aload_n hxR hbR dX0_closesOf_18 rfl (lv_at hl 0 rfl) ?_
        refine r_get hxR hbR hts hown hK hI okX0 (ci := 0) rfl 8 (he_l xW_o) 3 (by decide) q267 rfl (v := .ref (adg 8)) rfl dX0_closesOf_19 ?_
        refine r_get hxR hbR hts hown hK hI okX2 (ci := 2) rfl (14 + 0) (he_r (Nat.le_of_ble_eq_true rfl) (Nat.le_of_ble_eq_true rfl) gW_o) 0 (by decide) q190 rfl (v := .ref (adg 0)) rfl dX0_closesOf_22 ?_
        refine lv_iload hxR hbR dX0_closesOf_25 (lv_at hl 4 rfl) ?_
        refine r_iald hxR hbR hK hI (14 + 1) (n := 35) (J := i) (f := grg) (v := nI (L.getD i 0)) (he_r (Nat.le_of_ble_eq_true rfl) (Nat.le_of_ble_eq_true rfl) (gW_g0 rfl)) (by omega) (by decide) (hL.at (by omega)) dX0_closesOf_27 ?_
        refine lv_iload_n hxR hbR dX0_closesOf_28 rfl (lv_at hl 1 rfl) ?_
        refine kSI (n := 2) (As := [.int (nI (L.getD i 0)), .int (nI P)]) (rest := [.int (nI a)]) (fun w => w ++ (xW E ad iv ch rd tp rf hd nw tr (adg 8) dy im ++ (gW E adg ivg grg pag mog sgg tng))) hxR hbR hmlR hts hown hK hA hl.1 (isCtx.suf _) hI (c0_has l E  (L.getD i 0) P (by have := hL.lt (j := i) (by omega); omega) (by first | omega | with_reducible assumption)) (lw_S q1278 q660 q81 q661) (by decide +kernel) rfl (Nat.le_of_ble_eq_true rfl) (Nat.le_of_ble_eq_true rfl) ⟨Nat.le_of_ble_eq_true rfl, Nat.le_of_ble_eq_true rfl⟩ (Nat.le_of_ble_eq_true rfl) dX0_closesOf_29 (fun r_29 u H locs hp hI hz => ?_)
        have hI : wI E AR sR H locs (xW E ad iv ch rd tp rf hd nw tr (adg 8) dy im ++ (gW E adg ivg grg pag mog sgg tng)) := hI
        have hp : r_29 = b2i ((L.getD i 0).testBit P) := hp
        have hr_29 := hp
        rcases b2i_cases hr_29 with ⟨c_29, rfl⟩ | ⟨c_29, rfl⟩
        · skip
          have c_29 : (L.getD i 0).testBit P = true := c_29
          refine lv_if_eq (tgt := 56) hxR hbR dX0_closesOf_32 (by decide) (fun c => absurd c (by decide)) (fun _ => ?_)
          refine lv_aload_n hxR hbR dX0_closesOf_35 rfl (lv_at hl 0 rfl) ?_
          refine r_get hxR hbR hts hown hK hI okX0 (ci := 0) rfl 8 (he_l xW_o) 3 (by decide) q267 rfl (v := .ref (adg 8)) rfl dX0_closesOf_36 ?_
          refine r_get hxR hbR hts hown hK hI okX2 (ci := 2) rfl (14 + 0) (he_r (Nat.le_of_ble_eq_true rfl) (Nat.le_of_ble_eq_true rfl) gW_o) 0 (by decide) q190 rfl (v := .ref (adg 0)) rfl dX0_closesOf_39 ?_
          refine lv_iload hxR hbR dX0_closesOf_42 (lv_at hl 4 rfl) ?_
          refine r_iald hxR hbR hK hI (14 + 1) (n := 35) (J := i) (f := grg) (v := nI (L.getD i 0)) (he_r (Nat.le_of_ble_eq_true rfl) (Nat.le_of_ble_eq_true rfl) (gW_g0 rfl)) (by omega) (by decide) (hL.at (by omega)) dX0_closesOf_44 ?_
          refine lv_iload_n hxR hbR dX0_closesOf_45 rfl (lv_at hl 2 rfl) ?_
          refine kSI (n := 2) (As := [.int (nI (L.getD i 0)), .int (nI Qq)]) (rest := [.int (nI a)]) (fun w => w ++ (xW E ad iv ch rd tp rf hd nw tr (adg 8) dy im ++ (gW E adg ivg grg pag mog sgg tng))) hxR hbR hmlR hts hown hK hA hl.1 (isCtx.suf _) hI (c0_has l E  (L.getD i 0) Qq (by have := hL.lt (j := i) (by omega); omega) (by first | omega | with_reducible assumption)) (lw_S q1278 q660 q81 q661) (by decide +kernel) rfl (Nat.le_of_ble_eq_true rfl) (Nat.le_of_ble_eq_true rfl) ⟨Nat.le_of_ble_eq_true rfl, Nat.le_of_ble_eq_true rfl⟩ (Nat.le_of_ble_eq_true rfl) dX0_closesOf_46 (fun r_46 u H locs hp hI hz => ?_)
          have hI : wI E AR sR H locs (xW E ad iv ch rd tp rf hd nw tr (adg 8) dy im ++ (gW E adg ivg grg pag mog sgg tng)) := hI
          have hp : r_46 = b2i ((L.getD i 0).testBit Qq) := hp
          have hr_46 := hp
          rcases b2i_cases hr_46 with ⟨c_46, rfl⟩ | ⟨c_46, rfl⟩
          · skip
            have c_46 : (L.getD i 0).testBit Qq = true := c_46
            refine lv_if_eq (tgt := 56) hxR hbR dX0_closesOf_49 (by decide) (fun c => absurd c (by decide)) (fun _ => ?_)
            refine lv_iconst (v := 1) hxR hbR dX0_closesOf_52 (by decide) ?_
            refine lv_goto (tgt := 57) hxR hbR dX0_closesOf_53 (by decide) ?_
            refine lv_iadd hxR hbR dX0_closesOf_57 ?_
            refine lv_as (y := nI (a + 1)) (nI_add a 1) ?_
            refine lv_istore_n (lv' := [(3, .int (nI (a + 1))), (0, .ref (ad 11)), (1, .int (nI P)), (2, .int (nI Qq)), (4, .int (nI i))]) hxR hbR dX0_closesOf_58 rfl hl (by decide) rfl (fun ls hl => ?_)
            refine lv_iinc (v := nI (i + 1)) (lv' := [(4, .int (nI (i + 1))), (3, .int (nI (a + 1))), (0, .ref (ad 11)), (1, .int (nI P)), (2, .int (nI Qq))]) hxR hbR dX0_closesOf_59 hl (k := 4) rfl (show nI i + 1 = nI (i + 1) from nI_add _ 1) (by decide) rfl (fun ls hl => ?_)
            refine lv_goto (tgt := 5) hxR hbR dX0_closesOf_62 (by decide) ?_
            exact ih_5 (i + 1) (a + 1) (by first | omega | with_reducible assumption) (by rw [← ha, dropD (i := i) (by omega)]; first | (rw [clN_y c_29 c_46]; omega) | (rw [clN_1 c_29]; try omega) | (rw [clN_2 c_46]; try omega)) (by omega) _ _ hI _ (lv_sub hl [2, 3, 4, 1, 0] rfl)
          · skip
            have c_46 : (L.getD i 0).testBit Qq = false := c_46
            refine lv_if_eq (tgt := 56) hxR hbR dX0_closesOf_49 (by decide) (fun _ => ?_) (fun c => absurd c (by decide))
            refine lv_iconst (v := 0) hxR hbR dX0_closesOf_56 (by decide) ?_
            refine lv_iadd hxR hbR dX0_closesOf_57 ?_
            refine lv_as (y := nI a) (nI_add a 0) ?_
            refine lv_istore_n (lv' := [(3, .int (nI a)), (0, .ref (ad 11)), (1, .int (nI P)), (2, .int (nI Qq)), (4, .int (nI i))]) hxR hbR dX0_closesOf_58 rfl hl (by decide) rfl (fun ls hl => ?_)
            refine lv_iinc (v := nI (i + 1)) (lv' := [(4, .int (nI (i + 1))), (3, .int (nI a)), (0, .ref (ad 11)), (1, .int (nI P)), (2, .int (nI Qq))]) hxR hbR dX0_closesOf_59 hl (k := 4) rfl (show nI i + 1 = nI (i + 1) from nI_add _ 1) (by decide) rfl (fun ls hl => ?_)
            refine lv_goto (tgt := 5) hxR hbR dX0_closesOf_62 (by decide) ?_
            exact ih_5 (i + 1) a (by first | omega | with_reducible assumption) (by rw [← ha, dropD (i := i) (by omega)]; first | (rw [clN_y c_29 c_46]; omega) | (rw [clN_1 c_29]; try omega) | (rw [clN_2 c_46]; try omega)) (by omega) _ _ hI _ (lv_sub hl [2, 3, 4, 1, 0] rfl)
        · skip
          have c_29 : (L.getD i 0).testBit P = false := c_29
          refine lv_if_eq (tgt := 56) hxR hbR dX0_closesOf_32 (by decide) (fun _ => ?_) (fun c => absurd c (by decide))
          refine lv_iconst (v := 0) hxR hbR dX0_closesOf_56 (by decide) ?_
          refine lv_iadd hxR hbR dX0_closesOf_57 ?_
          refine lv_as (y := nI a) (nI_add a 0) ?_
          refine lv_istore_n (lv' := [(3, .int (nI a)), (0, .ref (ad 11)), (1, .int (nI P)), (2, .int (nI Qq)), (4, .int (nI i))]) hxR hbR dX0_closesOf_58 rfl hl (by decide) rfl (fun ls hl => ?_)
          refine lv_iinc (v := nI (i + 1)) (lv' := [(4, .int (nI (i + 1))), (3, .int (nI a)), (0, .ref (ad 11)), (1, .int (nI P)), (2, .int (nI Qq))]) hxR hbR dX0_closesOf_59 hl (k := 4) rfl (show nI i + 1 = nI (i + 1) from nI_add _ 1) (by decide) rfl (fun ls hl => ?_)
          refine lv_goto (tgt := 5) hxR hbR dX0_closesOf_62 (by decide) ?_
          exact ih_5 (i + 1) a (by first | omega | with_reducible assumption) (by rw [← ha, dropD (i := i) (by omega)]; first | (rw [clN_y c_29 c_46]; omega) | (rw [clN_1 c_29]; try omega) | (rw [clN_2 c_46]; try omega)) (by omega) _ _ hI _ (lv_sub hl [2, 3, 4, 1, 0] rfl)
  exact lp_5 _ 0 0 (by first | omega | with_reducible assumption) (Nat.zero_add _) (Nat.lt_succ_self _) _ _ hI _ (lv_sub hl [2, 3, 4, 1, 0] rfl)

theorem c0_areStrangers (l : Launch) (E : En) (ad : Nat → Nat) (iv : Nat → Int32) (ch : Nat → Int32) (rd : Nat → Int32) (tp : Nat → Int32) (rf : Nat → Int32) (hd : Nat → Option Nat) (tr : Nat) (gr : Nat) (dy : Nat) (im : Option Nat) (adn : Nat → Nat) (ivn : Nat → Int32) (hrn : Nat → Int32) (csn : Nat → Int32) (K : Nat → Nat → Int32) (n : Nat) (Z : Nat) (hn : ivn 3 = nI n) (hn7 : n ≤ 7) (hZ : Z < 2 ^ n) : CtI l E yX0_areStrangers cX0_areStrangers 3 .boolean 3 0 0 [.ref (ad 11), .int (nI Z)] (xW E ad iv ch rd tp rf hd (adn 10) tr gr dy im ++ (tW E adn ivn hrn csn (sK K))) (fun (r : Int32) (u : Unit) => r = b2i (asB K n Z n)) (fun (u : Unit) => xW E ad iv ch rd tp rf hd (adn 10) tr gr dy im ++ (tW E adn ivn hrn csn (sK K))) := by
  have h28 : 2 ^ n ≤ 2 ^ 7 := Nat.pow_le_pow_right (by decide) hn7
  refine CtI.of (by decide +kernel) (Nat.le_of_ble_eq_true rfl) ?_
  intro pR eR sR mR aR bR tR cR AR ls QR hxR hbR hmlR hts hown hlk hnm hA hK hI hl hret
  have hl : lv_has ls 3 [(0, .ref (ad 11)), (1, .int (nI Z))] := hl
  refine lv_iconst (v := 0) hxR hbR dX0_areStrangers_0 (by decide) ?_
  refine lv_istore_n (lv' := [(2, .int 0), (0, .ref (ad 11)), (1, .int (nI Z))]) hxR hbR dX0_areStrangers_1 rfl hl (by decide) rfl (fun ls hl => ?_)
  have lp_2 : ∀ (fu : Nat) (i : Nat), (i ≤ n) → (asB K n Z i = true) → n - i < fu → ∀ (H : Heap) (locs : List Loc), wI E AR sR H locs (xW E ad iv ch rd tp rf hd (adn 10) tr gr dy im ++ (tW E adn ivn hrn csn (sK K))) → ∀ ls : Array Slot, lv_has ls 3 [(0, .ref (ad 11)), (1, .int (nI Z)), (2, .int (nI i))] → W pR l eR (rmF 3 0 0) sR mR aR bR tR cR H locs 0 0 QR (F0 mR 2 ls []) := by
    intro fu
    induction fu with
    | zero =>
      intro i hi ha hfu
      exact absurd hfu (Nat.not_lt_zero _)
    | succ fu ih_2 =>
      intro i hi ha hfu H locs hI ls hl
      refine lv_iload_n hxR hbR dX0_areStrangers_2 rfl (lv_at hl 2 rfl) ?_
      refine lv_aload_n hxR hbR dX0_areStrangers_3 rfl (lv_at hl 0 rfl) ?_
      refine r_get hxR hbR hts hown hK hI okX0 (ci := 0) rfl 8 (he_l xW_o) 0 (by decide) q263 rfl (v := .ref (adn 10)) rfl dX0_areStrangers_4 ?_
      refine r_get hxR hbR hts hown hK hI okX1 (ci := 1) rfl (14 + 0) (he_r (Nat.le_of_ble_eq_true rfl) (Nat.le_of_ble_eq_true rfl) tW_o) 3 (by decide) q144 rfl (v := .int (nI n)) (al hn) dX0_areStrangers_7 ?_
      refine lv_icmp_ge (tgt := 50) hxR hbR dX0_areStrangers_10 (by decide) (fun c_10 => ?_) (fun c_10 => ?_)
      · skip
        have c_10 : n ≤ i := (n_le (a := n) (b := i) (by omega) (by omega)).mp c_10
        refine lv_iconst (v := 1) hxR hbR dX0_areStrangers_50 (by decide) ?_
        exact hret () 1 _ _ _ _ _ _ dX0_areStrangers_51 hI (by show 1 = b2i (asB K n Z n); rw [show n = i by omega]; rw [show i = n by omega] at ha; rw [show i = n by omega, ha]; rfl) (Nat.le_of_ble_eq_true rfl) (Nat.le_of_ble_eq_true rfl) rfl
      · skip
        have c_10 : i < n := Nat.lt_of_not_le (fun zz => c_10 ((n_le (a := n) (b := i) (by omega) (by omega)).mpr zz))
        refine lv_iload_n hxR hbR dX0_areStrangers_13 rfl (lv_at hl 1 rfl) ?_
        refine lv_iload_n hxR hbR dX0_areStrangers_14 rfl (lv_at hl 2 rfl) ?_
        refine kSI (n := 2) (As := [.int (nI Z), .int (nI i)]) (rest := []) (fun w => w ++ (xW E ad iv ch rd tp rf hd (adn 10) tr gr dy im ++ (tW E adn ivn hrn csn (sK K)))) hxR hbR hmlR hts hown hK hA hl.1 (isCtx.suf _) hI (c0_has l E  Z i (by omega) (by first | omega | with_reducible assumption)) (lw_S q1278 q660 q81 q661) (by decide +kernel) rfl (Nat.le_of_ble_eq_true rfl) (Nat.le_of_ble_eq_true rfl) ⟨Nat.le_of_ble_eq_true rfl, Nat.le_of_ble_eq_true rfl⟩ (Nat.le_of_ble_eq_true rfl) dX0_areStrangers_15 (fun r_15 u H locs hp hI hz => ?_)
        have hI : wI E AR sR H locs (xW E ad iv ch rd tp rf hd (adn 10) tr gr dy im ++ (tW E adn ivn hrn csn (sK K))) := hI
        have hp : r_15 = b2i (Z.testBit i) := hp
        have hr_15 := hp
        rcases b2i_cases hr_15 with ⟨c_15, rfl⟩ | ⟨c_15, rfl⟩
        · skip
          have c_15 : Z.testBit i = true := c_15
          refine lv_if_eq (tgt := 44) hxR hbR dX0_areStrangers_18 (by decide) (fun c => absurd c (by decide)) (fun _ => ?_)
          refine lv_iload_n hxR hbR dX0_areStrangers_21 rfl (lv_at hl 1 rfl) ?_
          refine lv_iconst (v := 1) hxR hbR dX0_areStrangers_22 (by decide) ?_
          refine lv_iload_n hxR hbR dX0_areStrangers_23 rfl (lv_at hl 2 rfl) ?_
          have hpw : 2 ^ i < 2 ^ 7 := Nat.pow_lt_pow_right (by decide) (by omega)
          refine lv_ishl hxR hbR dX0_areStrangers_24 ?_
          refine lv_as (y := nI (2 ^ i)) (nb_shl i (by omega)) ?_
          refine lv_iconst (v := (-1)) hxR hbR dX0_areStrangers_25 (by decide) ?_
          refine lv_ixor hxR hbR dX0_areStrangers_26 ?_
          refine lv_iand hxR hbR dX0_areStrangers_27 ?_
          refine lv_as (y := nI (nd Z (2 ^ i))) (nb_nd Z (2 ^ i)) ?_
          refine lv_aload_n hxR hbR dX0_areStrangers_28 rfl (lv_at hl 0 rfl) ?_
          refine r_get hxR hbR hts hown hK hI okX0 (ci := 0) rfl 8 (he_l xW_o) 0 (by decide) q263 rfl (v := .ref (adn 10)) rfl dX0_areStrangers_29 ?_
          refine lv_iload_n hxR hbR dX0_areStrangers_32 rfl (lv_at hl 2 rfl) ?_
          refine kVI (n := 1) (As := [.int (nI i)]) (rest := [.int (nI (nd Z (2 ^ i)))]) (fun w => (xW E ad iv ch rd tp rf hd (adn 10) tr gr dy im) ++ w) hxR hbR hmlR hts hown hK hA hl.1 (isCtx.pre _) hI (c1_strangers l E adn ivn hrn csn K n i hn (by first | omega | with_reducible assumption) (by first | omega | with_reducible assumption)) (lw_V q1158 q635 q636 q82 q637) ⟨rfl, by decide +kernel⟩ 0 1 rfl rfl tW_o rfl (Nat.le_of_ble_eq_true rfl) (Nat.le_of_ble_eq_true rfl) ⟨Nat.le_of_ble_eq_true rfl, Nat.le_of_ble_eq_true rfl⟩ (Nat.le_of_ble_eq_true rfl) dX0_areStrangers_33 (fun r_33 u H locs hp hI hz => ?_)
          have hI : wI E AR sR H locs (xW E ad iv ch rd tp rf hd (adn 10) tr gr dy im ++ (tW E adn ivn hrn csn (sK K))) := hI
          have hp : r_33 = nI (strS K i n) := hp
          have hr_33 := hp
          subst hr_33
          refine lv_iconst (v := (-1)) hxR hbR dX0_areStrangers_36 (by decide) ?_
          refine lv_ixor hxR hbR dX0_areStrangers_37 ?_
          refine lv_iand hxR hbR dX0_areStrangers_38 ?_
          refine lv_as (y := nI (nd (nd Z (2 ^ i)) (strS K i n))) (nb_nd (nd Z (2 ^ i)) (strS K i n)) ?_
          refine lv_if_eq (tgt := 44) hxR hbR dX0_areStrangers_39 (by decide) (fun c_39 => ?_) (fun c_39 => ?_)
          · skip
            have c_39 : (nd (nd Z (2 ^ i)) (strS K i n)) = 0 := (n_eq (a := (nd (nd Z (2 ^ i)) (strS K i n))) (b := 0) (by have := nd_le Z (2 ^ i); have := nd_le (nd Z (2 ^ i)) (strS K i n); omega) (by decide)).mp c_39
            refine lv_iinc (v := nI (i + 1)) (lv' := [(2, .int (nI (i + 1))), (0, .ref (ad 11)), (1, .int (nI Z))]) hxR hbR dX0_areStrangers_44 hl (k := 2) rfl (show nI i + 1 = nI (i + 1) from nI_add _ 1) (by decide) rfl (fun ls hl => ?_)
            refine lv_goto (tgt := 2) hxR hbR dX0_areStrangers_47 (by decide) ?_
            exact ih_2 (i + 1) (by first | omega | with_reducible assumption) (by rw [asB, ha]; first | (rw [c_15]; rfl) | (rw [decide_eq_true c_39]; simp)) (by omega) _ _ hI _ (lv_sub hl [1, 2, 0] rfl)
          · skip
            have c_39 : ¬ (nd (nd Z (2 ^ i)) (strS K i n)) = 0 := fun zz => c_39 ((n_eq (a := (nd (nd Z (2 ^ i)) (strS K i n))) (b := 0) (by have := nd_le Z (2 ^ i); have := nd_le (nd Z (2 ^ i)) (strS K i n); omega) (by decide)).mpr zz)
            refine lv_iconst (v := 0) hxR hbR dX0_areStrangers_42 (by decide) ?_
            exact hret () 0 _ _ _ _ _ _ dX0_areStrangers_43 hI (by show 0 = b2i (asB K n Z n); rw [asB_no c_15 c_39 n (by omega)]; rfl) (Nat.le_of_ble_eq_true rfl) (Nat.le_of_ble_eq_true rfl) rfl
        · skip
          have c_15 : Z.testBit i = false := c_15
          refine lv_if_eq (tgt := 44) hxR hbR dX0_areStrangers_18 (by decide) (fun _ => ?_) (fun c => absurd c (by decide))
          refine lv_iinc (v := nI (i + 1)) (lv' := [(2, .int (nI (i + 1))), (0, .ref (ad 11)), (1, .int (nI Z))]) hxR hbR dX0_areStrangers_44 hl (k := 2) rfl (show nI i + 1 = nI (i + 1) from nI_add _ 1) (by decide) rfl (fun ls hl => ?_)
          refine lv_goto (tgt := 2) hxR hbR dX0_areStrangers_47 (by decide) ?_
          exact ih_2 (i + 1) (by first | omega | with_reducible assumption) (by rw [asB, ha]; first | (rw [c_15]; rfl) | (rw [decide_eq_true c_39]; simp)) (by omega) _ _ hI _ (lv_sub hl [1, 2, 0] rfl)
  exact lp_2 _ 0 (by first | omega | with_reducible assumption) rfl (Nat.lt_succ_self _) _ _ hI _ (lv_sub hl [1, 2, 0] rfl)

theorem c0_closes (l : Launch) (E : En) (ad : Nat → Nat) (iv : Nat → Int32) (ch : Nat → Int32) (rd : Nat → Int32) (tp : Nat → Int32) (rf : Nat → Int32) (hd : Nat → Option Nat) (tr : Nat) (dy : Nat) (im : Option Nat) (adg : Nat → Nat) (ivg : Nat → Int32) (grg : Nat → Int32) (pag : Nat → Int32) (mog : Nat → Int32) (sgg : Nat → Int32) (tng : Option Nat) (adn : Nat → Nat) (ivn : Nat → Int32) (hrn : Nat → Int32) (csn : Nat → Int32) (K : Nat → Nat → Int32) (n st : Nat) (x y : Int32) (hn : ivn 3 = nI n) (hst : ivn 4 = nI st) (hn7 : n ≤ 7) (hs2 : 2 ≤ st) (hs4 : st ≤ 4) (hsym : kSym K n) : CtI l E yX0_closes cX0_closes 3 .int 15 0 0 [.ref (ad 11), .int x, .int y] (xW E ad iv ch rd tp rf hd (adn 10) tr (adg 8) dy im ++ (gW E adg ivg grg pag mog sgg tng ++ (tW E adn ivn hrn csn (sK K)))) (fun (r : Int32) (u : (Nat → Int32) × (Nat → Int32) × Int32 × (Nat → Int32) × (Nat → Int32) × (Option Nat)) => r = gd (twoC n x y) (nI (clN x.toNatClampNeg y.toNatClampNeg (GL K n st))) (twoC n x y)) (fun (u : (Nat → Int32) × (Nat → Int32) × Int32 × (Nat → Int32) × (Nat → Int32) × (Option Nat)) => xW E ad iv ch rd tp (bumpR rf (twoC n x y)) hd (adn 10) tr (adg 8) dy im ++ (gW E adg (va_up ivg 5 u.2.2.1) u.2.2.2.1 u.2.2.2.2.1 u.1 u.2.1 u.2.2.2.2.2 ++ (tW E adn ivn hrn csn (sK K)))) := by
  have h28 : 2 ^ n ≤ 2 ^ 7 := Nat.pow_le_pow_right (by decide) hn7
  refine CtI.of (by decide +kernel) (Nat.le_of_ble_eq_true rfl) ?_
  intro pR eR sR mR aR bR tR cR AR ls QR hxR hbR hmlR hts hown hlk hnm hA hK hI hl hret
  have hl : lv_has ls 3 [(0, .ref (ad 11)), (1, .int x), (2, .int y)] := hl
  refine lv_aload_n hxR hbR dX0_closes_0 rfl (lv_at hl 0 rfl) ?_
  refine lv_iload_n hxR hbR dX0_closes_1 rfl (lv_at hl 1 rfl) ?_
  refine lv_iload_n hxR hbR dX0_closes_2 rfl (lv_at hl 2 rfl) ?_
  have hI : wI E AR sR _ _ (xW E ad iv ch rd tp rf hd (adn 10) tr (adg 8) dy im ++ (tW E adn ivn hrn csn (sK K) ++ (gW E adg ivg grg pag mog sgg tng))) := wI_pick ([xW E ad iv ch rd tp rf hd (adn 10) tr (adg 8) dy im, gW E adg ivg grg pag mog sgg tng, tW E adn ivn hrn csn (sK K)]) [0, 2, 1] 3 rfl (by decide) hI
  have hI := wI_w app2 hI
  refine kVI (n := 2) (As := [.int x, .int y]) (rest := []) (fun w => w ++ (gW E adg ivg grg pag mog sgg tng)) hxR hbR hmlR hts hown hK hA hl.1 (isCtx.suf _) hI (c0_areTwo l E ad iv ch rd tp rf hd tr (adg 8) dy im adn ivn hrn csn K n x y hn (by omega)) (lw_V q764 q766 qs7 q81 q767) ⟨rfl, by decide +kernel⟩ 8 0 rfl rfl (he_l xW_o) rfl (Nat.le_of_ble_eq_true rfl) (Nat.le_of_ble_eq_true rfl) ⟨Nat.le_of_ble_eq_true rfl, Nat.le_of_ble_eq_true rfl⟩ (Nat.le_of_ble_eq_true rfl) dX0_closes_3 (fun r_3 u H locs hp hI hz => ?_)
  have hI := wI_w app2.symm hI
  have hI : wI E AR sR H locs (xW E ad iv ch rd tp rf hd (adn 10) tr (adg 8) dy im ++ (tW E adn ivn hrn csn (sK K) ++ (gW E adg ivg grg pag mog sgg tng))) := hI
  have hI : wI E AR sR _ _ (xW E ad iv ch rd tp rf hd (adn 10) tr (adg 8) dy im ++ (gW E adg ivg grg pag mog sgg tng ++ (tW E adn ivn hrn csn (sK K)))) := wI_pick ([xW E ad iv ch rd tp rf hd (adn 10) tr (adg 8) dy im, tW E adn ivn hrn csn (sK K), gW E adg ivg grg pag mog sgg tng]) [0, 2, 1] 3 rfl (by decide) hI
  have hp : r_3 = b2i (decide ((0 ≤ x.toInt ∧ x.toInt < (n : Int)) ∧ (0 ≤ y.toInt ∧ y.toInt < (n : Int)) ∧ ¬ x = y)) := hp
  have hr_3 := hp
  rcases b2i_cases hr_3 with ⟨c_3, rfl⟩ | ⟨c_3, rfl⟩
  · skip
    have c_3 : (0 ≤ Int32.toInt x ∧ Int32.toInt x < (n : Int)) ∧ (0 ≤ Int32.toInt y ∧ Int32.toInt y < (n : Int)) ∧ ¬ x = y := of_decide_eq_true c_3
    obtain ⟨P, hP, rfl⟩ := nat_of c_3.1 (by omega)
    have tP : (nI P).toInt = (P : Int) := nI_toInt (by omega)
    obtain ⟨Q, hQ, rfl⟩ := nat_of c_3.2.1 (by omega)
    have tQ : (nI Q).toInt = (Q : Int) := nI_toInt (by omega)
    refine lv_if_ne (tgt := 16) hxR hbR dX0_closes_6 (by decide) (fun _ => ?_) (fun c => absurd c (by decide))
    refine lv_aload_n hxR hbR dX0_closes_16 rfl (lv_at hl 0 rfl) ?_
    refine kVT (n := 0) (As := []) (rest := []) (fun w => w) hxR hbR hmlR hts hown hK hA hl.1 isCtx.id hI (c0_groups l E ad iv ch rd tp rf hd tr dy im adg ivg grg pag mog sgg tng adn ivn hrn csn K n st hn hst (by first | omega | with_reducible assumption) (by first | omega | with_reducible assumption) (by first | omega | with_reducible assumption) (by first | omega | with_reducible assumption)) (lw_V q626 q628 qs5 q81 q629) ⟨rfl, by decide +kernel⟩ 8 0 rfl rfl (he_l xW_o) rfl (Nat.le_of_ble_eq_true rfl) (Nat.le_of_ble_eq_true rfl) ⟨Nat.le_of_ble_eq_true rfl, Nat.le_of_ble_eq_true rfl⟩ (Nat.le_of_ble_eq_true rfl) dX0_closes_17 (fun u H locs hp hI hz => ?_)
    obtain ⟨mo2_17, sg2_17⟩ := u
    have hI : wI E AR sR H locs (xW E ad iv ch rd tp rf hd (adn 10) tr (adg 8) dy im ++ (gW E adg (va_up ivg 5 (nI ((GL K n st).length))) (wrL grg 0 (GL K n st)) (wrL pag 0 ((GL K n st).map pairN)) mo2_17 sg2_17 (some (adn 10)) ++ (tW E adn ivn hrn csn (sK K)))) := hI
    have hp : (∀ Z, Z < 2 ^ n → mo2_17 Z = nI (mostV (GL K n st) Z)) ∧ (∀ p, p < n → sg2_17 p = nI (strS K p n)) := hp
    obtain ⟨hmo_17, hsg_17⟩ := hp
    have hLg : gL (wrL grg 0 (GL K n st)) (GL K n st) := gL_wr hn7 hs2 hs4
    have hl35 := hLg.2.1
    refine lv_pop hxR hbR dX0_closes_20 rfl ?_
    refine lv_aload_n hxR hbR dX0_closes_21 rfl (lv_at hl 0 rfl) ?_
    refine lv_iload_n hxR hbR dX0_closes_22 rfl (lv_at hl 1 rfl) ?_
    refine lv_iload_n hxR hbR dX0_closes_23 rfl (lv_at hl 2 rfl) ?_
    have hI := wI_w app2 hI
    refine kVI (n := 2) (As := [.int (nI P), .int (nI Q)]) (rest := []) (fun w => w ++ (tW E adn ivn hrn csn (sK K))) hxR hbR hmlR hts hown hK hA hl.1 (isCtx.suf _) hI (c0_closesOf l E ad iv ch rd tp rf hd (adn 10) tr dy im adg (va_up ivg 5 (nI ((GL K n st).length))) (wrL grg 0 (GL K n st)) (wrL pag 0 ((GL K n st).map pairN)) mo2_17 sg2_17 (some (adn 10)) (GL K n st) P Q va_up_s (by first | omega | with_reducible assumption) (by first | omega | with_reducible assumption) (by first | omega | with_reducible assumption)) (lw_V q1325 q1327 qs27 q81 q1328) ⟨rfl, by decide +kernel⟩ 8 0 rfl rfl (he_l xW_o) rfl (Nat.le_of_ble_eq_true rfl) (Nat.le_of_ble_eq_true rfl) ⟨Nat.le_of_ble_eq_true rfl, Nat.le_of_ble_eq_true rfl⟩ (Nat.le_of_ble_eq_true rfl) dX0_closes_24 (fun r_24 u H locs hp hI hz => ?_)
    have hI := wI_w app2.symm hI
    have hI : wI E AR sR H locs (xW E ad iv ch rd tp rf hd (adn 10) tr (adg 8) dy im ++ (gW E adg (va_up ivg 5 (nI ((GL K n st).length))) (wrL grg 0 (GL K n st)) (wrL pag 0 ((GL K n st).map pairN)) mo2_17 sg2_17 (some (adn 10)) ++ (tW E adn ivn hrn csn (sK K)))) := hI
    have hp : r_24 = nI (clN P Q (GL K n st)) := hp
    have hr_24 := hp
    subst hr_24
    have hC : twoC n (nI P) (nI Q) = 0 := by
      clear hret hI
      unfold twoC
      try simp only [nI_clamp (n := P) (by omega), nI_clamp (n := Q) (by omega)]
      repeat' split
      all_goals first | rfl | (exfalso; omega) | contradiction | (exfalso; simp_all; done) | simp_all
    have erf : bumpR rf (twoC n (nI P) (nI Q)) = rf := by rw [hC]; exact bump_0 _
    have hI := wI_w (ws' := xW E ad iv ch rd tp (bumpR rf (twoC n (nI P) (nI Q))) hd (adn 10) tr (adg 8) dy im ++ (gW E adg (va_up ivg 5 (nI ((GL K n st).length))) (wrL grg 0 (GL K n st)) (wrL pag 0 ((GL K n st).map pairN)) mo2_17 sg2_17 (some (adn 10)) ++ (tW E adn ivn hrn csn (sK K)))) (by rw [erf]; try rfl) hI
    exact hret (mo2_17, sg2_17, nI ((GL K n st).length), wrL grg 0 (GL K n st), wrL pag 0 ((GL K n st).map pairN), some (adn 10)) (nI (clN P Q (GL K n st))) _ _ 0 0 _ _ dX0_closes_27 hI (by show (nI (clN P Q (GL K n st))) = gd (twoC n (nI P) (nI Q)) (nI (clN (nI P).toNatClampNeg (nI Q).toNatClampNeg (GL K n st))) (twoC n (nI P) (nI Q)); rw [hC]; first | rfl | (simp only [nI_clamp (n := P) (by omega), nI_clamp (n := Q) (by omega)]; rfl) | (simp only [gd_0, nI_clamp (n := P) (by omega), nI_clamp (n := Q) (by omega)]; split <;> first | rfl | contradiction)) (Nat.le_of_ble_eq_true rfl) (Nat.le_of_ble_eq_true rfl) rfl
  · skip
    have c_3 : ¬ ((0 ≤ Int32.toInt x ∧ Int32.toInt x < (n : Int)) ∧ (0 ≤ Int32.toInt y ∧ Int32.toInt y < (n : Int)) ∧ ¬ x = y) := of_decide_eq_false c_3
    refine lv_if_ne (tgt := 16) hxR hbR dX0_closes_6 (by decide) (fun c => absurd c (by decide)) (fun _ => ?_)
    refine lv_aload_n hxR hbR dX0_closes_9 rfl (lv_at hl 0 rfl) ?_
    refine lv_bipush (v := (-2)) hxR hbR dX0_closes_10 (by decide) ?_
    refine kVI (n := 1) (As := [.int (-2)]) (rest := []) (fun w => w ++ (gW E adg ivg grg pag mog sgg tng ++ (tW E adn ivn hrn csn (sK K)))) hxR hbR hmlR hts hown hK hA hl.1 (isCtx.suf _) hI (c0_no l E ad iv ch rd tp rf hd (adn 10) tr (adg 8) dy im (-2) 2 (by decide) (by decide)) (lw_V q396 q398 qs2 q81 q399) ⟨rfl, by decide +kernel⟩ 8 0 rfl rfl xW_o rfl (Nat.le_of_ble_eq_true rfl) (Nat.le_of_ble_eq_true rfl) ⟨Nat.le_of_ble_eq_true rfl, Nat.le_of_ble_eq_true rfl⟩ (Nat.le_of_ble_eq_true rfl) dX0_closes_12 (fun r_12 u H locs hp hI hz => ?_)
    have hI : wI E AR sR H locs (xW E ad iv ch rd tp (va_up rf 2 (rf 2 + 1)) hd (adn 10) tr (adg 8) dy im ++ (gW E adg ivg grg pag mog sgg tng ++ (tW E adn ivn hrn csn (sK K)))) := hI
    have hp : r_12 = (-2) := hp
    have hr_12 := hp
    subst hr_12
    have hC : twoC n x y = (-2) := by
      clear hret hI
      unfold twoC
      repeat' split
      all_goals first | rfl | (exfalso; omega) | contradiction | (exfalso; simp_all; done) | simp_all
    have erf : bumpR rf (twoC n x y) = va_up rf 2 (rf 2 + 1) := by rw [hC]; exact bump_2 _
    have hI := wI_w (ws' := xW E ad iv ch rd tp (bumpR rf (twoC n x y)) hd (adn 10) tr (adg 8) dy im ++ (gW E adg (va_up ivg 5 (ivg 5)) grg pag mog sgg tng ++ (tW E adn ivn hrn csn (sK K)))) (by rw [erf, va_up_id (f := ivg) (k := 5) (v := ivg 5) rfl]; try rfl) hI
    exact hret (mog, sgg, ivg 5, grg, pag, tng) (-2) _ _ 0 0 _ _ dX0_closes_15 hI (by show (-2) = gd (twoC n x y) (nI (clN x.toNatClampNeg y.toNatClampNeg (GL K n st))) (twoC n x y); rw [hC]; first | rfl | (simp only [gd_0]; split <;> first | rfl | contradiction)) (Nat.le_of_ble_eq_true rfl) (Nat.le_of_ble_eq_true rfl) rfl
