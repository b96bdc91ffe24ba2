theorem c0_grows (l : Launch) (E : En) : ∀ (rr : Nat) (adn : Nat → Nat) (ivn : Nat → Int32) (hrn : Nat → Int32) (csn : Nat → Int32) (K : Nat → Nat → Int32) (n Fr Z mm : Nat) (hn : ivn 3 = nI n) (hn7 : n ≤ 7) (hr : rr = n - Fr) (hFr : Fr ≤ n) (hZ : Z < 2 ^ n) (hmm : mm < 100), CtI l E yX0_grows cX0_grows 5 .boolean (rr + 3) 0 0 [.ref (adn 10), .int (nI Fr), .int (nI Z), .int (nI mm)] (tW E adn ivn hrn csn (sK K)) (fun (r : Int32) (u : Unit) => r = b2i (grB K n rr Z mm)) (fun (u : Unit) => tW E adn ivn hrn csn (sK K)) := by
  intro rr
  induction rr using Nat.strongRecOn with
  | _ rr ih =>
    intro adn ivn hrn csn K n Fr Z mm hn hn7 hr hFr hZ hmm
    have h27 : 2 ^ n ≤ 2 ^ 7 := Nat.pow_le_pow_right (by decide) hn7
    refine CtI.of (by decide +kernel) (Nat.le_of_ble_eq_true rfl) ?_
    intro pR eR sR mR aR bR tR cR AR ls QR hxR hbR hmlR hts hown hlk hnm hA hK hI hl hret
    have hl : lv_has ls 5 [(0, .ref (adn 10)), (1, .int (nI Fr)), (2, .int (nI Z)), (3, .int (nI mm))] := hl
    refine lv_iload_n hxR hbR dX0_grows_0 rfl (lv_at hl 3 rfl) ?_
    refine lv_if_ne (tgt := 6) hxR hbR dX0_grows_1 (by decide) (fun c_1 => ?_) (fun c_1 => ?_)
    · skip
      have c_1 : ¬ mm = 0 := fun zz => c_1 ((n_eq (a := mm) (b := 0) (by omega) (by omega)).mpr zz)
      refine lv_iload_n hxR hbR dX0_grows_6 rfl (lv_at hl 1 rfl) ?_
      refine lv_istore (lv' := [(4, .int (nI Fr)), (0, .ref (adn 10)), (1, .int (nI Fr)), (2, .int (nI Z)), (3, .int (nI mm))]) hxR hbR dX0_grows_7 hl (by decide) rfl (fun ls hl => ?_)
      have lp_9 : ∀ (fu : Nat) (p : Nat), (Fr ≤ p) → (p ≤ n) → (grB K n (n - p) Z mm = grB K n rr Z mm) → n - p < fu → ∀ (H : Heap) (locs : List Loc), wI E AR sR H locs (tW E adn ivn hrn csn (sK K)) → ∀ ls : Array Slot, lv_has ls 5 [(0, .ref (adn 10)), (1, .int (nI Fr)), (2, .int (nI Z)), (3, .int (nI mm)), (4, .int (nI p))] → W pR l eR (rmF (rr + 3) 0 0) sR mR aR bR tR cR H locs 0 0 QR (F0 mR 9 ls []) := by
        intro fu
        induction fu with
        | zero =>
          intro p hp0 hpn hg hfu
          exact absurd hfu (Nat.not_lt_zero _)
        | succ fu ih_9 =>
          intro p hp0 hpn hg hfu H locs hI ls hl
          refine lv_iload hxR hbR dX0_grows_9 (lv_at hl 4 rfl) ?_
          refine lv_aload_n hxR hbR dX0_grows_11 rfl (lv_at hl 0 rfl) ?_
          refine r_get hxR hbR hts hown hK hI okX1 (ci := 1) rfl 0 tW_o 3 (by decide) q144 rfl (v := .int (nI n)) (al hn) dX0_grows_12 ?_
          refine lv_icmp_ge (tgt := 57) hxR hbR dX0_grows_15 (by decide) (fun c_15 => ?_) (fun c_15 => ?_)
          · skip
            have c_15 : n ≤ p := (n_le (a := n) (b := p) (by omega) (by omega)).mp c_15
            refine lv_iconst (v := 0) hxR hbR dX0_grows_57 (by decide) ?_
            exact hret () 0 _ _ _ _ _ _ dX0_grows_58 hI (by show 0 = b2i (grB K n rr Z mm); rw [← hg, show n - p = 0 by omega, grB_e c_1]; rfl) (Nat.le_of_ble_eq_true rfl) (Nat.le_of_ble_eq_true rfl) rfl
          · skip
            have c_15 : p < n := Nat.lt_of_not_le (fun zz => c_15 ((n_le (a := n) (b := p) (by omega) (by omega)).mpr zz))
            refine lv_iload_n hxR hbR dX0_grows_18 rfl (lv_at hl 2 rfl) ?_
            refine lv_iload hxR hbR dX0_grows_19 (lv_at hl 4 rfl) ?_
            refine kSI (n := 2) (As := [.int (nI Z), .int (nI p)]) (rest := []) (fun w => w ++ (tW E adn ivn hrn csn (sK K))) hxR hbR hmlR hts hown hK hA hl.1 (isCtx.suf _) hI (c0_has l E  Z p (by omega) (by first | omega | with_reducible assumption)) (lw_S q1278 q660 q81 q661) (by decide +kernel) rfl (by omega) (Nat.le_of_ble_eq_true rfl) ⟨Nat.le_of_ble_eq_true rfl, Nat.le_of_ble_eq_true rfl⟩ (Nat.le_of_ble_eq_true rfl) dX0_grows_21 (fun r_21 u H locs hp hI hz => ?_)
            have hI : wI E AR sR H locs (tW E adn ivn hrn csn (sK K)) := hI
            have hp : r_21 = b2i (Z.testBit p) := hp
            have hr_21 := hp
            rcases b2i_cases hr_21 with ⟨c_21, rfl⟩ | ⟨c_21, rfl⟩
            · skip
              have c_21 : Z.testBit p = true := c_21
              refine lv_if_eq (tgt := 51) hxR hbR dX0_grows_24 (by decide) (fun c => absurd c (by decide)) (fun _ => ?_)
              refine lv_aload_n hxR hbR dX0_grows_27 rfl (lv_at hl 0 rfl) ?_
              refine lv_iload hxR hbR dX0_grows_28 (lv_at hl 4 rfl) ?_
              refine lv_iconst (v := 1) hxR hbR dX0_grows_30 (by decide) ?_
              refine lv_iadd hxR hbR dX0_grows_31 ?_
              refine lv_as (y := nI (p + 1)) (nI_add p 1) ?_
              refine lv_iload_n hxR hbR dX0_grows_32 rfl (lv_at hl 2 rfl) ?_
              refine lv_aload_n hxR hbR dX0_grows_33 rfl (lv_at hl 0 rfl) ?_
              refine lv_iload hxR hbR dX0_grows_34 (lv_at hl 4 rfl) ?_
              refine kVI (n := 1) (As := [.int (nI p)]) (rest := [.int (nI Z), .int (nI (p + 1)), .ref (adn 10)]) (fun w => w) hxR hbR hmlR hts hown hK hA hl.1 isCtx.id hI (c1_strangers l E adn ivn hrn csn K n p hn (by first | omega | with_reducible assumption) (by first | omega | with_reducible assumption)) (lw_V q1158 q635 q636 q82 q637) ⟨rfl, by decide +kernel⟩ 0 1 rfl rfl tW_o rfl (by omega) (Nat.le_of_ble_eq_true rfl) ⟨Nat.le_of_ble_eq_true rfl, Nat.le_of_ble_eq_true rfl⟩ (Nat.le_of_ble_eq_true rfl) dX0_grows_36 (fun r_36 u H locs hp hI hz => ?_)
              have hI : wI E AR sR H locs (tW E adn ivn hrn csn (sK K)) := hI
              have hp : r_36 = nI (strS K p n) := hp
              have hr_36 := hp
              subst hr_36
              refine lv_iand hxR hbR dX0_grows_39 ?_
              refine lv_as (y := nI (Z &&& (strS K p n))) (nb_and Z (strS K p n)) ?_
              refine lv_iload_n hxR hbR dX0_grows_40 rfl (lv_at hl 3 rfl) ?_
              refine lv_iconst (v := 1) hxR hbR dX0_grows_41 (by decide) ?_
              refine lv_isub hxR hbR dX0_grows_42 ?_
              refine lv_as (y := nI (mm - 1)) (pk_sub (a := mm) (b := 1) (by omega)) ?_
              refine kSI (n := 4) (As := [.ref (adn 10), .int (nI (p + 1)), .int (nI (Z &&& (strS K p n))), .int (nI (mm - 1))]) (rest := []) (fun w => w) hxR hbR hmlR hts hown hK hA hl.1 isCtx.id hI (ih (n - (p + 1)) (by omega) adn ivn hrn csn K n (p + 1) (Z &&& (strS K p n)) (mm - 1) hn (by first | omega | with_reducible assumption) rfl (by omega) (Nat.lt_of_le_of_lt Nat.and_le_left hZ) (by omega)) (lw_S q1358 q1359 q81 q1360) (by decide +kernel) rfl (by omega) (Nat.le_of_ble_eq_true rfl) ⟨Nat.le_of_ble_eq_true rfl, Nat.le_of_ble_eq_true rfl⟩ (Nat.le_of_ble_eq_true rfl) dX0_grows_43 (fun r_43 u H locs hp hI hz => ?_)
              have hI : wI E AR sR H locs (tW E adn ivn hrn csn (sK K)) := hI
              have hp : r_43 = b2i (grB K n (n - (p + 1)) (Z &&& (strS K p n)) (mm - 1)) := hp
              have hr_43 := hp
              rcases b2i_cases hr_43 with ⟨c_43, rfl⟩ | ⟨c_43, rfl⟩
              · skip
                have c_43 : grB K n (n - (p + 1)) (Z &&& (strS K p n)) (mm - 1) = true := c_43
                refine lv_if_eq (tgt := 51) hxR hbR dX0_grows_46 (by decide) (fun c => absurd c (by decide)) (fun _ => ?_)
                refine lv_iconst (v := 1) hxR hbR dX0_grows_49 (by decide) ?_
                exact hret () 1 _ _ _ _ _ _ dX0_grows_50 hI (by show 1 = b2i (grB K n rr Z mm); rw [← hg, grB_s c_1 c_15, c_21, c_43]; rfl) (Nat.le_of_ble_eq_true rfl) (Nat.le_of_ble_eq_true rfl) rfl
              · skip
                have c_43 : grB K n (n - (p + 1)) (Z &&& (strS K p n)) (mm - 1) = false := c_43
                refine lv_if_eq (tgt := 51) hxR hbR dX0_grows_46 (by decide) (fun _ => ?_) (fun c => absurd c (by decide))
                refine lv_iinc (v := nI (p + 1)) (lv' := [(4, .int (nI (p + 1))), (0, .ref (adn 10)), (1, .int (nI Fr)), (2, .int (nI Z)), (3, .int (nI mm))]) hxR hbR dX0_grows_51 hl (k := 4) rfl (show nI p + 1 = nI (p + 1) from nI_add _ 1) (by decide) rfl (fun ls hl => ?_)
                refine lv_goto (tgt := 9) hxR hbR dX0_grows_54 (by decide) ?_
                exact ih_9 (p + 1) (by first | omega | with_reducible assumption) (by first | omega | with_reducible assumption) (by rw [← hg, grB_s c_1 c_15]; first | rw [c_21, Bool.false_and, Bool.false_or] | rw [c_43, Bool.and_false, Bool.false_or]) (by omega) _ _ hI _ (lv_sub hl [1, 2, 3, 4, 0] rfl)
            · skip
              have c_21 : Z.testBit p = false := c_21
              refine lv_if_eq (tgt := 51) hxR hbR dX0_grows_24 (by decide) (fun _ => ?_) (fun c => absurd c (by decide))
              refine lv_iinc (v := nI (p + 1)) (lv' := [(4, .int (nI (p + 1))), (0, .ref (adn 10)), (1, .int (nI Fr)), (2, .int (nI Z)), (3, .int (nI mm))]) hxR hbR dX0_grows_51 hl (k := 4) rfl (show nI p + 1 = nI (p + 1) from nI_add _ 1) (by decide) rfl (fun ls hl => ?_)
              refine lv_goto (tgt := 9) hxR hbR dX0_grows_54 (by decide) ?_
              exact ih_9 (p + 1) (by first | omega | with_reducible assumption) (by first | omega | with_reducible assumption) (by rw [← hg, grB_s c_1 c_15]; first | rw [c_21, Bool.false_and, Bool.false_or] | rw [c_43, Bool.and_false, Bool.false_or]) (by omega) _ _ hI _ (lv_sub hl [1, 2, 3, 4, 0] rfl)
      exact lp_9 _ Fr (by first | omega | with_reducible assumption) (by first | omega | with_reducible assumption) (by rw [hr]) (Nat.lt_succ_self _) _ _ hI _ (lv_sub hl [1, 2, 3, 4, 0] rfl)
    · skip
      have c_1 : mm = 0 := (n_eq (a := mm) (b := 0) (by omega) (by omega)).mp c_1
      refine lv_iconst (v := 1) hxR hbR dX0_grows_4 (by decide) ?_
      exact hret () 1 _ _ _ _ _ _ dX0_grows_5 hI (by show 1 = b2i (grB K n rr Z mm); rw [c_1, grB_z]; rfl) (Nat.le_of_ble_eq_true rfl) (Nat.le_of_ble_eq_true rfl) rfl

theorem c0_hasGroup (l : Launch) (E : En) (adn : Nat → Nat) (ivn : Nat → Int32) (hrn : Nat → Int32) (csn : Nat → Int32) (K : Nat → Nat → Int32) (n st Z : Nat) (hn : ivn 3 = nI n) (hst : ivn 4 = nI st) (hn7 : n ≤ 7) (hs4 : st ≤ 4) (hZ : Z < 2 ^ n) : CtI l E yX0_hasGroup cX0_hasGroup 2 .boolean 12 0 0 [.ref (adn 10), .int (nI Z)] (tW E adn ivn hrn csn (sK K)) (fun (r : Int32) (u : Unit) => r = b2i (grB K n n Z st)) (fun (u : Unit) => tW E adn ivn hrn csn (sK K)) := by
  refine CtI.of (by decide +kernel) (Nat.le_of_ble_eq_true rfl) ?_
  intro pR eR sR mR aR bR tR cR AR ls QR hxR hbR hmlR hts hown hlk hnm hA hK hI hl hret
  have hl : lv_has ls 2 [(0, .ref (adn 10)), (1, .int (nI Z))] := hl
  refine lv_aload_n hxR hbR dX0_hasGroup_0 rfl (lv_at hl 0 rfl) ?_
  refine lv_iconst (v := 0) hxR hbR dX0_hasGroup_1 (by decide) ?_
  refine lv_iload_n hxR hbR dX0_hasGroup_2 rfl (lv_at hl 1 rfl) ?_
  refine lv_aload_n hxR hbR dX0_hasGroup_3 rfl (lv_at hl 0 rfl) ?_
  refine r_get hxR hbR hts hown hK hI okX1 (ci := 1) rfl 0 tW_o 4 (by decide) q148 rfl (v := .int (nI st)) (al hst) dX0_hasGroup_4 ?_
  refine kSI (n := 4) (As := [.ref (adn 10), .int 0, .int (nI Z), .int (nI st)]) (rest := []) (fun w => w) hxR hbR hmlR hts hown hK hA hl.1 isCtx.id hI (c0_grows l E n adn ivn hrn csn K n 0 Z st hn (by first | omega | with_reducible assumption) rfl (Nat.zero_le _) (by first | omega | with_reducible assumption) (by omega)) (lw_S q1358 q1359 q81 q1360) (by decide +kernel) rfl (by omega) (Nat.le_of_ble_eq_true rfl) ⟨Nat.le_of_ble_eq_true rfl, Nat.le_of_ble_eq_true rfl⟩ (Nat.le_of_ble_eq_true rfl) dX0_hasGroup_7 (fun r_7 u H locs hp hI hz => ?_)
  have hI : wI E AR sR H locs (tW E adn ivn hrn csn (sK K)) := hI
  have hp : r_7 = b2i (grB K n n Z st) := hp
  have hr_7 := hp
  subst hr_7
  exact hret () (b2i (grB K n n Z st)) _ _ _ _ _ _ dX0_hasGroup_10 hI (by show (b2i (grB K n n Z st)) = b2i (grB K n n Z st); first | assumption | rfl) (Nat.le_of_ble_eq_true rfl) (Nat.le_of_ble_eq_true rfl) (b2i_nar _)

theorem c0_isFew (l : Launch) (E : En) (ad : Nat → Nat) (iv : Nat → Int32) (ch : Nat → Int32) (rd : Nat → Int32) (tp : Nat → Int32) (rf : Nat → Int32) (hd : Nat → Option Nat) (tr : Nat) (gr : Nat) (dy : Nat) (im : Option Nat) (adn : Nat → Nat) (ivn : Nat → Int32) (hrn : Nat → Int32) (csn : Nat → Int32) (K : Nat → Nat → Int32) (n : Nat) (x : Int32) (hn : ivn 3 = nI n) (hn7 : n ≤ 7) : CtI l E yX0_isFew cX0_isFew 2 .boolean 4 0 0 [.ref (ad 11), .int x] (xW E ad iv ch rd tp rf hd (adn 10) tr gr dy im ++ (tW E adn ivn hrn csn (sK K))) (fun (r : Int32) (u : Unit) => r = b2i (decide ((0 ≤ x.toInt ∧ x.toInt < ((2 ^ n : Nat) : Int)) ∧ bitsN x.toNatClampNeg 8 ≤ 5))) (fun (u : Unit) => xW E ad iv ch rd tp rf hd (adn 10) tr gr dy im ++ (tW E adn ivn hrn csn (sK K))) := by
  have h28 : 2 ^ n ≤ 2 ^ 7 := Nat.pow_le_pow_right (by decide) hn7
  refine CtI.of (by decide +kernel) (Nat.le_of_ble_eq_true rfl) ?_
  intro pR eR sR mR aR bR tR cR AR ls QR hxR hbR hmlR hts hown hlk hnm hA hK hI hl hret
  have hl : lv_has ls 2 [(0, .ref (ad 11)), (1, .int x)] := hl
  refine lv_aload_n hxR hbR dX0_isFew_0 rfl (lv_at hl 0 rfl) ?_
  refine r_get hxR hbR hts hown hK hI okX0 (ci := 0) rfl 8 (he_l xW_o) 0 (by decide) q263 rfl (v := .ref (adn 10)) rfl dX0_isFew_1 ?_
  refine lv_iload_n hxR hbR dX0_isFew_4 rfl (lv_at hl 1 rfl) ?_
  refine kVI (n := 1) (As := [.int x]) (rest := []) (fun w => (xW E ad iv ch rd tp rf hd (adn 10) tr gr dy im) ++ w) hxR hbR hmlR hts hown hK hA hl.1 (isCtx.pre _) hI (c1_isSet l E adn ivn hrn csn K n x hn (by omega)) (lw_V q1168 q1169 q1170 q82 q1171) ⟨rfl, by decide +kernel⟩ 0 1 rfl rfl tW_o rfl (Nat.le_of_ble_eq_true rfl) (Nat.le_of_ble_eq_true rfl) ⟨Nat.le_of_ble_eq_true rfl, Nat.le_of_ble_eq_true rfl⟩ (Nat.le_of_ble_eq_true rfl) dX0_isFew_5 (fun r_5 u H locs hp hI hz => ?_)
  have hI : wI E AR sR H locs (xW E ad iv ch rd tp rf hd (adn 10) tr gr dy im ++ (tW E adn ivn hrn csn (sK K))) := hI
  have hp : r_5 = b2i (decide (0 ≤ x.toInt ∧ x.toInt < ((2 ^ n : Nat) : Int))) := hp
  have hr_5 := hp
  rcases b2i_cases hr_5 with ⟨c_5, rfl⟩ | ⟨c_5, rfl⟩
  · skip
    have c_5 : 0 ≤ Int32.toInt x ∧ Int32.toInt x < ((2 ^ n : Nat) : Int) := of_decide_eq_true c_5
    obtain ⟨P, hP, rfl⟩ := nat_of c_5 (by omega)
    have tP : (nI P).toInt = (P : Int) := nI_toInt (by omega)
    refine lv_if_eq (tgt := 23) hxR hbR dX0_isFew_8 (by decide) (fun c => absurd c (by decide)) (fun _ => ?_)
    refine lv_iload_n hxR hbR dX0_isFew_11 rfl (lv_at hl 1 rfl) ?_
    refine kSI (n := 1) (As := [.int (nI P)]) (rest := []) (fun w => w ++ (xW E ad iv ch rd tp rf hd (adn 10) tr gr dy im ++ (tW E adn ivn hrn csn (sK K)))) hxR hbR hmlR hts hown hK hA hl.1 (isCtx.suf _) hI (c10_bitCount l E  P (by omega)) (lw_S q1159 q651 q105 q652) (by decide +kernel) rfl (Nat.le_of_ble_eq_true rfl) (Nat.le_of_ble_eq_true rfl) ⟨Nat.le_of_ble_eq_true rfl, Nat.le_of_ble_eq_true rfl⟩ (Nat.le_of_ble_eq_true rfl) dX0_isFew_12 (fun r_12 u H locs hp hI hz => ?_)
    have hI : wI E AR sR H locs (xW E ad iv ch rd tp rf hd (adn 10) tr gr dy im ++ (tW E adn ivn hrn csn (sK K))) := hI
    have hp : r_12 = nI (bitsN P 8) := hp
    have hr_12 := hp
    subst hr_12
    have hbl := bitsN_le P 8
    refine lv_iconst (v := 5) hxR hbR dX0_isFew_15 (by decide) ?_
    refine lv_icmp_gt (tgt := 23) hxR hbR dX0_isFew_16 (by decide) (fun c_16 => ?_) (fun c_16 => ?_)
    · skip
      have c_16 : 5 < (bitsN P 8) := (n_lt (a := 5) (b := (bitsN P 8)) (by omega) (by omega)).mp c_16
      refine lv_iconst (v := 0) hxR hbR dX0_isFew_23 (by decide) ?_
      exact hret () 0 _ _ _ _ _ _ dX0_isFew_24 hI (by show 0 = b2i (decide ((0 ≤ (nI P).toInt ∧ (nI P).toInt < ((2 ^ n : Nat) : Int)) ∧ bitsN (nI P).toNatClampNeg 8 ≤ 5)); first | (rw [decide_eq_false (fun z => c_5 z.1)]; rfl) | (rw [nI_clamp (n := P) (by omega)]; first | (rw [decide_eq_true ⟨c_5, by omega⟩]; rfl) | (rw [decide_eq_false (fun z => by omega)]; rfl))) (Nat.le_of_ble_eq_true rfl) (Nat.le_of_ble_eq_true rfl) rfl
    · skip
      have c_16 : (bitsN P 8) ≤ 5 := Nat.le_of_not_lt (fun zz => c_16 ((n_lt (a := 5) (b := (bitsN P 8)) (by omega) (by omega)).mpr zz))
      refine lv_iconst (v := 1) hxR hbR dX0_isFew_19 (by decide) ?_
      refine lv_goto (tgt := 24) hxR hbR dX0_isFew_20 (by decide) ?_
      exact hret () 1 _ _ _ _ _ _ dX0_isFew_24 hI (by show 1 = b2i (decide ((0 ≤ (nI P).toInt ∧ (nI P).toInt < ((2 ^ n : Nat) : Int)) ∧ bitsN (nI P).toNatClampNeg 8 ≤ 5)); first | (rw [decide_eq_false (fun z => c_5 z.1)]; rfl) | (rw [nI_clamp (n := P) (by omega)]; first | (rw [decide_eq_true ⟨c_5, by omega⟩]; rfl) | (rw [decide_eq_false (fun z => by omega)]; rfl))) (Nat.le_of_ble_eq_true rfl) (Nat.le_of_ble_eq_true rfl) rfl
  · skip
    have c_5 : ¬ (0 ≤ Int32.toInt x ∧ Int32.toInt x < ((2 ^ n : Nat) : Int)) := of_decide_eq_false c_5
    refine lv_if_eq (tgt := 23) hxR hbR dX0_isFew_8 (by decide) (fun _ => ?_) (fun c => absurd c (by decide))
    refine lv_iconst (v := 0) hxR hbR dX0_isFew_23 (by decide) ?_
    exact hret () 0 _ _ _ _ _ _ dX0_isFew_24 hI (by show 0 = b2i (decide ((0 ≤ x.toInt ∧ x.toInt < ((2 ^ n : Nat) : Int)) ∧ bitsN x.toNatClampNeg 8 ≤ 5)); first | (rw [decide_eq_false (fun z => c_5 z.1)]; rfl) | (rw [nI_clamp (n := P) (by omega)]; first | (rw [decide_eq_true ⟨c_5, by omega⟩]; rfl) | (rw [decide_eq_false (fun z => by omega)]; rfl))) (Nat.le_of_ble_eq_true rfl) (Nat.le_of_ble_eq_true rfl) rfl
