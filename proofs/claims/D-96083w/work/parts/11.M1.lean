theorem c5_in (l : Launch) (E : En)  (v lo hi : Int64)  : CtI l E yX5_in cX5_in 6 .boolean 0 0 0 [.long v, .long lo, .long hi] (([] : va_W)) (fun (r : Int32) (u : Unit) => r = b2i (inL v lo hi)) (fun (u : Unit) => ([] : va_W)) := by
  refine CtI.of (by decide +kernel) (Nat.le_of_ble_eq_true rfl) ?_
  intro pR eR sR mR aR bR tR cR AR ls QR hxR hbR hmlR hts hown hlk hnm hA hK hI hl hret
  have hl : lv_has ls 6 [(0, .long v), (2, .long lo), (4, .long hi)] := hl
  refine lv_lload_n hxR hbR dX5_in_0 rfl (lv_at hl 0 rfl) ?_
  refine lv_lload_n hxR hbR dX5_in_1 rfl (lv_at hl 1 rfl) ?_
  refine W.lcmp hxR hbR dX5_in_2 ?_
  refine lv_if_lt (tgt := 17) hxR hbR dX5_in_3 (by decide) (fun c_3 => ?_) (fun c_3 => ?_)
  · skip
    rw [cmp_lt] at c_3
    refine lv_iconst (v := 0) hxR hbR dX5_in_17 (by decide) ?_
    exact hret () 0 _ _ _ _ _ _ dX5_in_18 hI (by show 0 = b2i (inL v lo hi); rw [inL]; first | rw [decide_eq_true (by omega)]; rfl | rw [decide_eq_false (by omega)]; rfl) (Nat.le_of_ble_eq_true rfl) (Nat.le_of_ble_eq_true rfl) rfl
  · skip
    rw [cmp_lt] at c_3
    refine lv_lload_n hxR hbR dX5_in_6 rfl (lv_at hl 0 rfl) ?_
    refine lv_lload hxR hbR dX5_in_7 (lv_at hl 2 rfl) ?_
    refine W.lcmp hxR hbR dX5_in_9 ?_
    refine lv_if_gt (tgt := 17) hxR hbR dX5_in_10 (by decide) (fun c_10 => ?_) (fun c_10 => ?_)
    · skip
      rw [cmp_gt] at c_10
      refine lv_iconst (v := 0) hxR hbR dX5_in_17 (by decide) ?_
      exact hret () 0 _ _ _ _ _ _ dX5_in_18 hI (by show 0 = b2i (inL v lo hi); rw [inL]; first | rw [decide_eq_true (by omega)]; rfl | rw [decide_eq_false (by omega)]; rfl) (Nat.le_of_ble_eq_true rfl) (Nat.le_of_ble_eq_true rfl) rfl
    · skip
      rw [cmp_gt] at c_10
      refine lv_iconst (v := 1) hxR hbR dX5_in_13 (by decide) ?_
      refine lv_goto (tgt := 18) hxR hbR dX5_in_14 (by decide) ?_
      exact hret () 1 _ _ _ _ _ _ dX5_in_18 hI (by show 1 = b2i (inL v lo hi); rw [inL]; first | rw [decide_eq_true (by omega)]; rfl | rw [decide_eq_false (by omega)]; rfl) (Nat.le_of_ble_eq_true rfl) (Nat.le_of_ble_eq_true rfl) rfl

theorem c5_has (l : Launch) (E : En)  (S P : Nat) (hS : S < 2 ^ 31) (hP : P < 32) : CtI l E yX5_has cX5_has 2 .boolean 0 0 0 [.int (nI S), .int (nI P)] (([] : va_W)) (fun (r : Int32) (u : Unit) => r = b2i (S.testBit P)) (fun (u : Unit) => ([] : va_W)) := by
  refine CtI.of (by decide +kernel) (Nat.le_of_ble_eq_true rfl) ?_
  intro pR eR sR mR aR bR tR cR AR ls QR hxR hbR hmlR hts hown hlk hnm hA hK hI hl hret
  have hl : lv_has ls 2 [(0, .int (nI S)), (1, .int (nI P))] := hl
  refine lv_iload_n hxR hbR dX5_has_0 rfl (lv_at hl 0 rfl) ?_
  refine lv_iload_n hxR hbR dX5_has_1 rfl (lv_at hl 1 rfl) ?_
  refine lv_ishr hxR hbR dX5_has_2 ?_
  refine lv_as (y := nI (S >>> P)) (nb_shr S P (by omega) (by omega)) ?_
  refine lv_iconst (v := 1) hxR hbR dX5_has_3 (by decide) ?_
  refine lv_iand hxR hbR dX5_has_4 ?_
  refine lv_as (y := nI ((S >>> P) &&& 1)) (nb_and (S >>> P) 1) ?_
  refine lv_if_eq (tgt := 12) hxR hbR dX5_has_5 (by decide) (fun c_5 => ?_) (fun c_5 => ?_)
  · skip
    have c_5 : ((S >>> P) &&& 1) = 0 := (n_eq (a := ((S >>> P) &&& 1)) (b := 0) (by rw [bit_mod]; split <;> decide) (by decide)).mp c_5
    rw [bit_mod] at c_5
    refine lv_iconst (v := 0) hxR hbR dX5_has_12 (by decide) ?_
    exact hret () 0 _ _ _ _ _ _ dX5_has_13 hI (by show 0 = b2i (S.testBit P); cases hh : S.testBit P <;> simp [hh] at c_5 <;> rfl) (Nat.le_of_ble_eq_true rfl) (Nat.le_of_ble_eq_true rfl) rfl
  · skip
    have c_5 : ¬ ((S >>> P) &&& 1) = 0 := fun zz => c_5 ((n_eq (a := ((S >>> P) &&& 1)) (b := 0) (by rw [bit_mod]; split <;> decide) (by decide)).mpr zz)
    rw [bit_mod] at c_5
    refine lv_iconst (v := 1) hxR hbR dX5_has_8 (by decide) ?_
    refine lv_goto (tgt := 13) hxR hbR dX5_has_9 (by decide) ?_
    exact hret () 1 _ _ _ _ _ _ dX5_has_13 hI (by show 1 = b2i (S.testBit P); cases hh : S.testBit P <;> simp [hh] at c_5 <;> rfl) (Nat.le_of_ble_eq_true rfl) (Nat.le_of_ble_eq_true rfl) rfl

theorem c5_bits (l : Launch) (E : En)  (S : Nat) (hS : S < 2 ^ 31) : CtI l E yX5_bits cX5_bits 3 .int 0 0 0 [.int (nI S)] (([] : va_W)) (fun (r : Int32) (u : Unit) => r = nI (bitsN S 8)) (fun (u : Unit) => ([] : va_W)) := by
  refine CtI.of (by decide +kernel) (Nat.le_of_ble_eq_true rfl) ?_
  intro pR eR sR mR aR bR tR cR AR ls QR hxR hbR hmlR hts hown hlk hnm hA hK hI hl hret
  have hl : lv_has ls 3 [(0, .int (nI S))] := hl
  refine lv_iconst (v := 0) hxR hbR dX5_bits_0 (by decide) ?_
  refine lv_istore_n (lv' := [(1, .int 0), (0, .int (nI S))]) hxR hbR dX5_bits_1 rfl hl (by decide) rfl (fun ls hl => ?_)
  refine lv_iconst (v := 0) hxR hbR dX5_bits_2 (by decide) ?_
  refine lv_istore_n (lv' := [(2, .int 0), (1, .int 0), (0, .int (nI S))]) hxR hbR dX5_bits_3 rfl hl (by decide) rfl (fun ls hl => ?_)
  have lp_4 : ∀ (fu : Nat) (a : Nat) (k : Nat), (k ≤ 8) → (a = bitsN S k) → 8 - k < fu → ∀ (H : Heap) (locs : List Loc), wI E AR sR H locs (([] : va_W)) → ∀ ls : Array Slot, lv_has ls 3 [(0, .int (nI S)), (1, .int (nI a)), (2, .int (nI k))] → W pR l eR (rmF 0 0 0) sR mR aR bR tR cR H locs 0 0 QR (F0 mR 4 ls []) := by
    intro fu
    induction fu with
    | zero =>
      intro a k hk ha hfu
      exact absurd hfu (Nat.not_lt_zero _)
    | succ fu ih_4 =>
      intro a k hk ha hfu H locs hI ls hl
      refine lv_iload_n hxR hbR dX5_bits_4 rfl (lv_at hl 2 rfl) ?_
      refine lv_bipush (v := 8) hxR hbR dX5_bits_5 (by decide) ?_
      refine lv_icmp_ge (tgt := 24) hxR hbR dX5_bits_7 (by decide) (fun c_7 => ?_) (fun c_7 => ?_)
      · skip
        have c_7 : 8 ≤ k := (n_le (a := 8) (b := k) (by omega) (by omega)).mp c_7
        refine lv_iload_n hxR hbR dX5_bits_24 rfl (lv_at hl 1 rfl) ?_
        exact hret () (nI a) _ _ _ _ _ _ dX5_bits_25 hI (by show (nI a) = nI (bitsN S 8); rw [ha, show k = 8 by omega]) (Nat.le_of_ble_eq_true rfl) (Nat.le_of_ble_eq_true rfl) rfl
      · skip
        have c_7 : k < 8 := Nat.lt_of_not_le (fun zz => c_7 ((n_le (a := 8) (b := k) (by omega) (by omega)).mpr zz))
        refine lv_iload_n hxR hbR dX5_bits_10 rfl (lv_at hl 1 rfl) ?_
        refine lv_iload_n hxR hbR dX5_bits_11 rfl (lv_at hl 0 rfl) ?_
        refine lv_iload_n hxR hbR dX5_bits_12 rfl (lv_at hl 2 rfl) ?_
        refine lv_ishr hxR hbR dX5_bits_13 ?_
        refine lv_as (y := nI (S >>> k)) (nb_shr S k (by omega) (by omega)) ?_
        refine lv_iconst (v := 1) hxR hbR dX5_bits_14 (by decide) ?_
        refine lv_iand hxR hbR dX5_bits_15 ?_
        refine lv_as (y := nI ((S >>> k) &&& 1)) (nb_and (S >>> k) 1) ?_
        refine lv_iadd hxR hbR dX5_bits_16 ?_
        refine lv_as (y := nI (a + ((S >>> k) &&& 1))) (nI_add a ((S >>> k) &&& 1)) ?_
        refine lv_istore_n (lv' := [(1, .int (nI (a + ((S >>> k) &&& 1)))), (0, .int (nI S)), (2, .int (nI k))]) hxR hbR dX5_bits_17 rfl hl (by decide) rfl (fun ls hl => ?_)
        refine lv_iinc (v := nI (k + 1)) (lv' := [(2, .int (nI (k + 1))), (1, .int (nI (a + ((S >>> k) &&& 1)))), (0, .int (nI S))]) hxR hbR dX5_bits_18 hl (k := 2) rfl (show nI k + 1 = nI (k + 1) from nI_add _ 1) (by decide) rfl (fun ls hl => ?_)
        refine lv_goto (tgt := 4) hxR hbR dX5_bits_21 (by decide) ?_
        exact ih_4 (a + ((S >>> k) &&& 1)) (k + 1) (by first | omega | with_reducible assumption) (by rw [ha, bit_mod]; rfl) (by omega) _ _ hI _ (lv_sub hl [2, 1, 0] rfl)
  exact lp_4 _ 0 0 (by first | omega | with_reducible assumption) rfl (Nat.lt_succ_self _) _ _ hI _ (lv_sub hl [2, 1, 0] rfl)

theorem c5_isOne (l : Launch) (E : En) (ad : Nat → Nat) (kp tr : Option Nat) (iv : Nat → Int32) (ia K : Nat → Nat → Int32) (R : Nat → Nat → Int64) (mv : Nat → Int64) (n : Nat) (x : Int32) (hn : iv 10 = nI n) (hn8 : n ≤ 8) : CtI l E yX5_isOne cX5_isOne 2 .boolean 1 0 0 [.ref (ad 45), .int x] (mW E ad kp tr iv ia K R mv) (fun (r : Int32) (u : Unit) => r = b2i (decide (0 ≤ x.toInt ∧ x.toInt < (n : Int)))) (fun (u : Unit) => mW E ad kp tr iv ia K R mv) := by
  refine CtI.of (by decide +kernel) (Nat.le_of_ble_eq_true rfl) ?_
  intro pR eR sR mR aR bR tR cR AR ls QR hxR hbR hmlR hts hown hlk hnm hA hK hI hl hret
  have hl : lv_has ls 2 [(0, .ref (ad 45)), (1, .int x)] := hl
  refine lv_iload_n hxR hbR dX5_isOne_0 rfl (lv_at hl 1 rfl) ?_
  refine lv_i2l (v := x.toInt64) hxR hbR dX5_isOne_1 rfl ?_
  refine lv_lconst (v := 0) hxR hbR dX5_isOne_2 (by decide) ?_
  refine lv_aload_n hxR hbR dX5_isOne_3 rfl (lv_at hl 0 rfl) ?_
  refine r_get hxR hbR hts hown hK hI okX5 (ci := 5) rfl 16 mW_o 10 (by decide) q1488 rfl (v := .int (nI n)) (al hn) dX5_isOne_4 ?_
  refine lv_iconst (v := 1) hxR hbR dX5_isOne_7 (by decide) ?_
  refine lv_isub hxR hbR dX5_isOne_8 ?_
  refine lv_i2l (v := ((nI n) - 1).toInt64) hxR hbR dX5_isOne_9 rfl ?_
  refine kSI (n := 3) (As := [.long x.toInt64, .long (0 : Int64), .long (((nI n) - 1).toInt64)]) (rest := []) (fun w => w ++ (mW E ad kp tr iv ia K R mv)) hxR hbR hmlR hts hown hK hA hl.1 (isCtx.suf _) hI (c5_in l E  x.toInt64 (0 : Int64) (((nI n) - 1).toInt64) ) (lw_S q1619 q1620 q86 q1621) (by decide +kernel) rfl (Nat.le_of_ble_eq_true rfl) (Nat.le_of_ble_eq_true rfl) ⟨Nat.le_of_ble_eq_true rfl, Nat.le_of_ble_eq_true rfl⟩ (Nat.le_of_ble_eq_true rfl) dX5_isOne_10 (fun r_10 u H locs hp hI hz => ?_)
  have hI : wI E AR sR H locs (mW E ad kp tr iv ia K R mv) := hI
  have hp : r_10 = b2i (inL x.toInt64 (0 : Int64) (((nI n) - 1).toInt64)) := hp
  have hr_10 := hp
  subst hr_10
  exact hret () (b2i (inL x.toInt64 (0 : Int64) (((nI n) - 1).toInt64))) _ _ _ _ _ _ dX5_isOne_13 hI (by show (b2i (inL x.toInt64 (0 : Int64) (((nI n) - 1).toInt64))) = b2i (decide (0 ≤ x.toInt ∧ x.toInt < (n : Int))); congr 1; rw [inL, Int32.toInt_toInt64, Int32.toInt_toInt64, nI_m1 (by omega)]; exact decide_eq_decide.mpr ⟨fun h => ⟨h.1, by omega⟩, fun h => ⟨h.1, by omega⟩⟩) (Nat.le_of_ble_eq_true rfl) (Nat.le_of_ble_eq_true rfl) (b2i_nar _)

theorem c5_all (l : Launch) (E : En) (ad : Nat → Nat) (kp tr : Option Nat) (iv : Nat → Int32) (ia K : Nat → Nat → Int32) (R : Nat → Nat → Int64) (mv : Nat → Int64) (n : Nat) (hn : iv 10 = nI n) (hn8 : n ≤ 8) : CtI l E yX5_all cX5_all 1 .int 0 0 0 [.ref (ad 45)] (mW E ad kp tr iv ia K R mv) (fun (r : Int32) (u : Unit) => r = nI (2 ^ n - 1)) (fun (u : Unit) => mW E ad kp tr iv ia K R mv) := by
  refine CtI.of (by decide +kernel) (Nat.le_of_ble_eq_true rfl) ?_
  intro pR eR sR mR aR bR tR cR AR ls QR hxR hbR hmlR hts hown hlk hnm hA hK hI hl hret
  have hl : lv_has ls 1 [(0, .ref (ad 45))] := hl
  refine lv_iconst (v := 1) hxR hbR dX5_all_0 (by decide) ?_
  refine lv_aload_n hxR hbR dX5_all_1 rfl (lv_at hl 0 rfl) ?_
  refine r_get hxR hbR hts hown hK hI okX5 (ci := 5) rfl 16 mW_o 10 (by decide) q1488 rfl (v := .int (nI n)) (al hn) dX5_all_2 ?_
  refine lv_ishl hxR hbR dX5_all_5 ?_
  refine lv_as (y := nI (2 ^ n)) (nb_shl n (by omega)) ?_
  refine lv_iconst (v := 1) hxR hbR dX5_all_6 (by decide) ?_
  refine lv_isub hxR hbR dX5_all_7 ?_
  refine lv_as (y := nI ((2 ^ n) - 1)) (pk_sub (a := 2 ^ n) (b := 1) (Nat.one_le_two_pow)) ?_
  exact hret () (nI ((2 ^ n) - 1)) _ _ _ _ _ _ dX5_all_8 hI (by first | rfl | trivial | assumption | simp_all) (Nat.le_of_ble_eq_true rfl) (Nat.le_of_ble_eq_true rfl) rfl

theorem c5_strangersOf (l : Launch) (E : En) (ad : Nat → Nat) (kp tr : Option Nat) (iv : Nat → Int32) (ia K : Nat → Nat → Int32) (R : Nat → Nat → Int64) (mv : Nat → Int64) (n P : Nat) (hn : iv 10 = nI n) (hn8 : n ≤ 8) (hP : P < 8) : CtI l E yX5_strangersOf cX5_strangersOf 4 .int 0 0 0 [.ref (ad 45), .int (nI P)] (mW E ad kp tr iv ia K R mv) (fun (r : Int32) (u : Unit) => r = nI (strS K P n)) (fun (u : Unit) => mW E ad kp tr iv ia K R mv) := by
  refine CtI.of (by decide +kernel) (Nat.le_of_ble_eq_true rfl) ?_
  intro pR eR sR mR aR bR tR cR AR ls QR hxR hbR hmlR hts hown hlk hnm hA hK hI hl hret
  have hl : lv_has ls 4 [(0, .ref (ad 45)), (1, .int (nI P))] := hl
  refine lv_iconst (v := 0) hxR hbR dX5_strangersOf_0 (by decide) ?_
  refine lv_istore_n (lv' := [(2, .int 0), (0, .ref (ad 45)), (1, .int (nI P))]) hxR hbR dX5_strangersOf_1 rfl hl (by decide) rfl (fun ls hl => ?_)
  refine lv_iconst (v := 0) hxR hbR dX5_strangersOf_2 (by decide) ?_
  refine lv_istore_n (lv' := [(3, .int 0), (2, .int 0), (0, .ref (ad 45)), (1, .int (nI P))]) hxR hbR dX5_strangersOf_3 rfl hl (by decide) rfl (fun ls hl => ?_)
  have lp_4 : ∀ (fu : Nat) (a : Nat) (i : Nat), (i ≤ n) → (a = strS K P i) → n - i < fu → ∀ (H : Heap) (locs : List Loc), wI E AR sR H locs (mW E ad kp tr iv ia K R mv) → ∀ ls : Array Slot, lv_has ls 4 [(0, .ref (ad 45)), (1, .int (nI P)), (2, .int (nI a)), (3, .int (nI i))] → W pR l eR (rmF 0 0 0) sR mR aR bR tR cR H locs 0 0 QR (F0 mR 4 ls []) := by
    intro fu
    induction fu with
    | zero =>
      intro a i hi ha hfu
      exact absurd hfu (Nat.not_lt_zero _)
    | succ fu ih_4 =>
      intro a i hi ha hfu H locs hI ls hl
      refine lv_iload_n hxR hbR dX5_strangersOf_4 rfl (lv_at hl 3 rfl) ?_
      refine lv_aload_n hxR hbR dX5_strangersOf_5 rfl (lv_at hl 0 rfl) ?_
      refine r_get hxR hbR hts hown hK hI okX5 (ci := 5) rfl 16 mW_o 10 (by decide) q1488 rfl (v := .int (nI n)) (al hn) dX5_strangersOf_6 ?_
      refine lv_icmp_ge (tgt := 45) hxR hbR dX5_strangersOf_9 (by decide) (fun c_9 => ?_) (fun c_9 => ?_)
      · skip
        have c_9 : n ≤ i := (n_le (a := n) (b := i) (by omega) (by omega)).mp c_9
        refine lv_iload_n hxR hbR dX5_strangersOf_45 rfl (lv_at hl 2 rfl) ?_
        exact hret () (nI a) _ _ _ _ _ _ dX5_strangersOf_46 hI (by show (nI a) = nI (strS K P n); rw [ha, show i = n by omega]) (Nat.le_of_ble_eq_true rfl) (Nat.le_of_ble_eq_true rfl) rfl
      · skip
        have c_9 : i < n := Nat.lt_of_not_le (fun zz => c_9 ((n_le (a := n) (b := i) (by omega) (by omega)).mpr zz))
        refine lv_iload_n hxR hbR dX5_strangersOf_12 rfl (lv_at hl 2 rfl) ?_
        refine lv_iload_n hxR hbR dX5_strangersOf_13 rfl (lv_at hl 3 rfl) ?_
        refine lv_iload_n hxR hbR dX5_strangersOf_14 rfl (lv_at hl 1 rfl) ?_
        refine lv_icmp_eq (tgt := 36) hxR hbR dX5_strangersOf_15 (by decide) (fun c_15 => ?_) (fun c_15 => ?_)
        · skip
          have c_15 : i = P := (n_eq (a := i) (b := P) (by omega) (by omega)).mp c_15
          refine lv_iconst (v := 0) hxR hbR dX5_strangersOf_36 (by decide) ?_
          refine lv_ior hxR hbR dX5_strangersOf_37 ?_
          refine lv_as (y := nI (a ||| 0)) (nb_or a 0) ?_
          refine lv_istore_n (lv' := [(2, .int (nI (a ||| 0))), (0, .ref (ad 45)), (1, .int (nI P)), (3, .int (nI i))]) hxR hbR dX5_strangersOf_38 rfl hl (by decide) rfl (fun ls hl => ?_)
          refine lv_iinc (v := nI (i + 1)) (lv' := [(3, .int (nI (i + 1))), (2, .int (nI (a ||| 0))), (0, .ref (ad 45)), (1, .int (nI P))]) hxR hbR dX5_strangersOf_39 hl (k := 3) rfl (show nI i + 1 = nI (i + 1) from nI_add _ 1) (by decide) rfl (fun ls hl => ?_)
          refine lv_goto (tgt := 4) hxR hbR dX5_strangersOf_42 (by decide) ?_
          exact ih_4 (a ||| 0) (i + 1) (by first | omega | with_reducible assumption) (by rw [ha]; first | exact (strS_y c_15 c_27).symm | exact (strS_n1 c_15).symm | exact (strS_n2 c_27).symm) (by omega) _ _ hI _ (lv_sub hl [2, 3, 1, 0] rfl)
        · skip
          have c_15 : ¬ i = P := fun zz => c_15 ((n_eq (a := i) (b := P) (by omega) (by omega)).mpr zz)
          refine lv_aload_n hxR hbR dX5_strangersOf_18 rfl (lv_at hl 0 rfl) ?_
          refine r_get hxR hbR hts hown hK hI okX5 (ci := 5) rfl 16 mW_o 13 (by decide) q1491 rfl (v := .ref (ad 13)) rfl dX5_strangersOf_19 ?_
          refine lv_iload_n hxR hbR dX5_strangersOf_22 rfl (lv_at hl 1 rfl) ?_
          refine r_aald hxR hbR hK hI 28 2 (r := ad (50 + P)) rfl rfl (n := 8) (J := P) rfl (by omega) (by decide) rfl dX5_strangersOf_23 ?_
          refine lv_iload_n hxR hbR dX5_strangersOf_24 rfl (lv_at hl 3 rfl) ?_
          refine r_iald hxR hbR hK hI P (n := 8) (J := i) (f := K P) (v := (K P) i) (mW_K P (by omega)) (by omega) (by decide) rfl dX5_strangersOf_25 ?_
          refine lv_iconst (v := (-1)) hxR hbR dX5_strangersOf_26 (by decide) ?_
          refine lv_icmp_ne (tgt := 36) hxR hbR dX5_strangersOf_27 (by decide) (fun c_27 => ?_) (fun c_27 => ?_)
          · skip
            refine lv_iconst (v := 0) hxR hbR dX5_strangersOf_36 (by decide) ?_
            refine lv_ior hxR hbR dX5_strangersOf_37 ?_
            refine lv_as (y := nI (a ||| 0)) (nb_or a 0) ?_
            refine lv_istore_n (lv' := [(2, .int (nI (a ||| 0))), (0, .ref (ad 45)), (1, .int (nI P)), (3, .int (nI i))]) hxR hbR dX5_strangersOf_38 rfl hl (by decide) rfl (fun ls hl => ?_)
            refine lv_iinc (v := nI (i + 1)) (lv' := [(3, .int (nI (i + 1))), (2, .int (nI (a ||| 0))), (0, .ref (ad 45)), (1, .int (nI P))]) hxR hbR dX5_strangersOf_39 hl (k := 3) rfl (show nI i + 1 = nI (i + 1) from nI_add _ 1) (by decide) rfl (fun ls hl => ?_)
            refine lv_goto (tgt := 4) hxR hbR dX5_strangersOf_42 (by decide) ?_
            exact ih_4 (a ||| 0) (i + 1) (by first | omega | with_reducible assumption) (by rw [ha]; first | exact (strS_y c_15 c_27).symm | exact (strS_n1 c_15).symm | exact (strS_n2 c_27).symm) (by omega) _ _ hI _ (lv_sub hl [2, 3, 1, 0] rfl)
          · skip
            refine lv_iconst (v := 1) hxR hbR dX5_strangersOf_30 (by decide) ?_
            refine lv_iload_n hxR hbR dX5_strangersOf_31 rfl (lv_at hl 3 rfl) ?_
            refine lv_ishl hxR hbR dX5_strangersOf_32 ?_
            refine lv_as (y := nI (2 ^ i)) (nb_shl i (by omega)) ?_
            refine lv_goto (tgt := 37) hxR hbR dX5_strangersOf_33 (by decide) ?_
            refine lv_ior hxR hbR dX5_strangersOf_37 ?_
            refine lv_as (y := nI (a ||| (2 ^ i))) (nb_or a (2 ^ i)) ?_
            refine lv_istore_n (lv' := [(2, .int (nI (a ||| (2 ^ i)))), (0, .ref (ad 45)), (1, .int (nI P)), (3, .int (nI i))]) hxR hbR dX5_strangersOf_38 rfl hl (by decide) rfl (fun ls hl => ?_)
            refine lv_iinc (v := nI (i + 1)) (lv' := [(3, .int (nI (i + 1))), (2, .int (nI (a ||| (2 ^ i)))), (0, .ref (ad 45)), (1, .int (nI P))]) hxR hbR dX5_strangersOf_39 hl (k := 3) rfl (show nI i + 1 = nI (i + 1) from nI_add _ 1) (by decide) rfl (fun ls hl => ?_)
            refine lv_goto (tgt := 4) hxR hbR dX5_strangersOf_42 (by decide) ?_
            exact ih_4 (a ||| (2 ^ i)) (i + 1) (by first | omega | with_reducible assumption) (by rw [ha]; first | exact (strS_y c_15 c_27).symm | exact (strS_n1 c_15).symm | exact (strS_n2 c_27).symm) (by omega) _ _ hI _ (lv_sub hl [2, 3, 1, 0] rfl)
  exact lp_4 _ 0 0 (by first | omega | with_reducible assumption) rfl (Nat.lt_succ_self _) _ _ hI _ (lv_sub hl [2, 3, 1, 0] rfl)

theorem c5_costOf (l : Launch) (E : En) (ad : Nat → Nat) (kp tr : Option Nat) (iv : Nat → Int32) (ia K : Nat → Nat → Int32) (R : Nat → Nat → Int64) (mv : Nat → Int64) (n S : Nat) (hn : iv 10 = nI n) (hn8 : n ≤ 8) (hS : S < 2 ^ 31) : CtI l E yX5_costOf cX5_costOf 4 .int 1 0 0 [.ref (ad 45), .int (nI S)] (mW E ad kp tr iv ia K R mv) (fun (r : Int32) (u : Unit) => r = sumS (ia 12) S n) (fun (u : Unit) => mW E ad kp tr iv ia K R mv) := by
  refine CtI.of (by decide +kernel) (Nat.le_of_ble_eq_true rfl) ?_
  intro pR eR sR mR aR bR tR cR AR ls QR hxR hbR hmlR hts hown hlk hnm hA hK hI hl hret
  have hl : lv_has ls 4 [(0, .ref (ad 45)), (1, .int (nI S))] := hl
  refine lv_iconst (v := 0) hxR hbR dX5_costOf_0 (by decide) ?_
  refine lv_istore_n (lv' := [(2, .int 0), (0, .ref (ad 45)), (1, .int (nI S))]) hxR hbR dX5_costOf_1 rfl hl (by decide) rfl (fun ls hl => ?_)
  refine lv_iconst (v := 0) hxR hbR dX5_costOf_2 (by decide) ?_
  refine lv_istore_n (lv' := [(3, .int 0), (2, .int 0), (0, .ref (ad 45)), (1, .int (nI S))]) hxR hbR dX5_costOf_3 rfl hl (by decide) rfl (fun ls hl => ?_)
  have lp_4 : ∀ (fu : Nat) (a : Int32) (i : Nat), (i ≤ n) → (a = sumS (ia 12) S i) → n - i < fu → ∀ (H : Heap) (locs : List Loc), wI E AR sR H locs (mW E ad kp tr iv ia K R mv) → ∀ ls : Array Slot, lv_has ls 4 [(0, .ref (ad 45)), (1, .int (nI S)), (2, .int a), (3, .int (nI i))] → W pR l eR (rmF 1 0 0) sR mR aR bR tR cR H locs 0 0 QR (F0 mR 4 ls []) := by
    intro fu
    induction fu with
    | zero =>
      intro a i hi ha hfu
      exact absurd hfu (Nat.not_lt_zero _)
    | succ fu ih_4 =>
      intro a i hi ha hfu H locs hI ls hl
      refine lv_iload_n hxR hbR dX5_costOf_4 rfl (lv_at hl 3 rfl) ?_
      refine lv_aload_n hxR hbR dX5_costOf_5 rfl (lv_at hl 0 rfl) ?_
      refine r_get hxR hbR hts hown hK hI okX5 (ci := 5) rfl 16 mW_o 10 (by decide) q1488 rfl (v := .int (nI n)) (al hn) dX5_costOf_6 ?_
      refine lv_icmp_ge (tgt := 39) hxR hbR dX5_costOf_9 (by decide) (fun c_9 => ?_) (fun c_9 => ?_)
      · skip
        have c_9 : n ≤ i := (n_le (a := n) (b := i) (by omega) (by omega)).mp c_9
        refine lv_iload_n hxR hbR dX5_costOf_39 rfl (lv_at hl 2 rfl) ?_
        exact hret () a _ _ _ _ _ _ dX5_costOf_40 hI (by show a = sumS (ia 12) S n; rw [ha, show i = n by omega]) (Nat.le_of_ble_eq_true rfl) (Nat.le_of_ble_eq_true rfl) rfl
      · skip
        have c_9 : i < n := Nat.lt_of_not_le (fun zz => c_9 ((n_le (a := n) (b := i) (by omega) (by omega)).mpr zz))
        refine lv_iload_n hxR hbR dX5_costOf_12 rfl (lv_at hl 2 rfl) ?_
        refine lv_iload_n hxR hbR dX5_costOf_13 rfl (lv_at hl 1 rfl) ?_
        refine lv_iload_n hxR hbR dX5_costOf_14 rfl (lv_at hl 3 rfl) ?_
        refine kSI (n := 2) (As := [.int (nI S), .int (nI i)]) (rest := [.int a]) (fun w => w ++ (mW E ad kp tr iv ia K R mv)) hxR hbR hmlR hts hown hK hA hl.1 (isCtx.suf _) hI (c5_has l E  S i (by first | omega | with_reducible assumption) (by first | omega | with_reducible assumption)) (lw_S q1680 q1681 q86 q1682) (by decide +kernel) rfl (Nat.le_of_ble_eq_true rfl) (Nat.le_of_ble_eq_true rfl) ⟨Nat.le_of_ble_eq_true rfl, Nat.le_of_ble_eq_true rfl⟩ (Nat.le_of_ble_eq_true rfl) dX5_costOf_15 (fun r_15 u H locs hp hI hz => ?_)
        have hI : wI E AR sR H locs (mW E ad kp tr iv ia K R mv) := hI
        have hp : r_15 = b2i (S.testBit i) := hp
        have hr_15 := hp
        rcases b2i_cases hr_15 with ⟨c_15, rfl⟩ | ⟨c_15, rfl⟩
        · skip
          have c_15 : S.testBit i = true := c_15
          refine lv_if_eq (tgt := 30) hxR hbR dX5_costOf_18 (by decide) (fun c => absurd c (by decide)) (fun _ => ?_)
          refine lv_aload_n hxR hbR dX5_costOf_21 rfl (lv_at hl 0 rfl) ?_
          refine r_get hxR hbR hts hown hK hI okX5 (ci := 5) rfl 16 mW_o 12 (by decide) q1490 rfl (v := .ref (ad 12)) rfl dX5_costOf_22 ?_
          refine lv_iload_n hxR hbR dX5_costOf_25 rfl (lv_at hl 3 rfl) ?_
          refine r_iald hxR hbR hK hI 27 (n := 8) (J := i) (f := ia 12) (v := (ia 12) i) (mW_g12 rfl) (by omega) (by decide) rfl dX5_costOf_26 ?_
          refine lv_goto (tgt := 31) hxR hbR dX5_costOf_27 (by decide) ?_
          refine lv_iadd hxR hbR dX5_costOf_31 ?_
          refine lv_istore_n (lv' := [(2, .int (a + ((ia 12) i))), (0, .ref (ad 45)), (1, .int (nI S)), (3, .int (nI i))]) hxR hbR dX5_costOf_32 rfl hl (by decide) rfl (fun ls hl => ?_)
          refine lv_iinc (v := nI (i + 1)) (lv' := [(3, .int (nI (i + 1))), (2, .int (a + ((ia 12) i))), (0, .ref (ad 45)), (1, .int (nI S))]) hxR hbR dX5_costOf_33 hl (k := 3) rfl (show nI i + 1 = nI (i + 1) from nI_add _ 1) (by decide) rfl (fun ls hl => ?_)
          refine lv_goto (tgt := 4) hxR hbR dX5_costOf_36 (by decide) ?_
          exact ih_4 (a + ((ia 12) i)) (i + 1) (by first | omega | with_reducible assumption) (by rw [ha]; first | exact (sumS_y c_15).symm | exact (sumS_n c_15).symm) (by omega) _ _ hI _ (lv_sub hl [2, 3, 1, 0] rfl)
        · skip
          have c_15 : S.testBit i = false := c_15
          refine lv_if_eq (tgt := 30) hxR hbR dX5_costOf_18 (by decide) (fun _ => ?_) (fun c => absurd c (by decide))
          refine lv_iconst (v := 0) hxR hbR dX5_costOf_30 (by decide) ?_
          refine lv_iadd hxR hbR dX5_costOf_31 ?_
          refine lv_istore_n (lv' := [(2, .int (a + 0)), (0, .ref (ad 45)), (1, .int (nI S)), (3, .int (nI i))]) hxR hbR dX5_costOf_32 rfl hl (by decide) rfl (fun ls hl => ?_)
          refine lv_iinc (v := nI (i + 1)) (lv' := [(3, .int (nI (i + 1))), (2, .int (a + 0)), (0, .ref (ad 45)), (1, .int (nI S))]) hxR hbR dX5_costOf_33 hl (k := 3) rfl (show nI i + 1 = nI (i + 1) from nI_add _ 1) (by decide) rfl (fun ls hl => ?_)
          refine lv_goto (tgt := 4) hxR hbR dX5_costOf_36 (by decide) ?_
          exact ih_4 (a + 0) (i + 1) (by first | omega | with_reducible assumption) (by rw [ha]; first | exact (sumS_y c_15).symm | exact (sumS_n c_15).symm) (by omega) _ _ hI _ (lv_sub hl [2, 3, 1, 0] rfl)
  exact lp_4 _ 0 0 (by first | omega | with_reducible assumption) rfl (Nat.lt_succ_self _) _ _ hI _ (lv_sub hl [2, 3, 1, 0] rfl)

theorem c5_meetsOf (l : Launch) (E : En) (ad : Nat → Nat) (kp tr : Option Nat) (iv : Nat → Int32) (ia K : Nat → Nat → Int32) (R : Nat → Nat → Int64) (mv : Nat → Int64) (n S : Nat) (hn : iv 10 = nI n) (hn8 : n ≤ 8) (hS : S < 2 ^ 31) : CtI l E yX5_meetsOf cX5_meetsOf 4 .int 1 0 0 [.ref (ad 45), .int (nI S)] (mW E ad kp tr iv ia K R mv) (fun (r : Int32) (u : Unit) => r = sumS (fun p => nI (bitsN (strS K p n) 8)) S n) (fun (u : Unit) => mW E ad kp tr iv ia K R mv) := by
  refine CtI.of (by decide +kernel) (Nat.le_of_ble_eq_true rfl) ?_
  intro pR eR sR mR aR bR tR cR AR ls QR hxR hbR hmlR hts hown hlk hnm hA hK hI hl hret
  have hl : lv_has ls 4 [(0, .ref (ad 45)), (1, .int (nI S))] := hl
  refine lv_iconst (v := 0) hxR hbR dX5_meetsOf_0 (by decide) ?_
  refine lv_istore_n (lv' := [(2, .int 0), (0, .ref (ad 45)), (1, .int (nI S))]) hxR hbR dX5_meetsOf_1 rfl hl (by decide) rfl (fun ls hl => ?_)
  refine lv_iconst (v := 0) hxR hbR dX5_meetsOf_2 (by decide) ?_
  refine lv_istore_n (lv' := [(3, .int 0), (2, .int 0), (0, .ref (ad 45)), (1, .int (nI S))]) hxR hbR dX5_meetsOf_3 rfl hl (by decide) rfl (fun ls hl => ?_)
  have lp_4 : ∀ (fu : Nat) (a : Int32) (i : Nat), (i ≤ n) → (a = sumS (fun p => nI (bitsN (strS K p n) 8)) S i) → n - i < fu → ∀ (H : Heap) (locs : List Loc), wI E AR sR H locs (mW E ad kp tr iv ia K R mv) → ∀ ls : Array Slot, lv_has ls 4 [(0, .ref (ad 45)), (1, .int (nI S)), (2, .int a), (3, .int (nI i))] → W pR l eR (rmF 1 0 0) sR mR aR bR tR cR H locs 0 0 QR (F0 mR 4 ls []) := by
    intro fu
    induction fu with
    | zero =>
      intro a i hi ha hfu
      exact absurd hfu (Nat.not_lt_zero _)
    | succ fu ih_4 =>
      intro a i hi ha hfu H locs hI ls hl
      refine lv_iload_n hxR hbR dX5_meetsOf_4 rfl (lv_at hl 3 rfl) ?_
      refine lv_aload_n hxR hbR dX5_meetsOf_5 rfl (lv_at hl 0 rfl) ?_
      refine r_get hxR hbR hts hown hK hI okX5 (ci := 5) rfl 16 mW_o 10 (by decide) q1488 rfl (v := .int (nI n)) (al hn) dX5_meetsOf_6 ?_
      refine lv_icmp_ge (tgt := 41) hxR hbR dX5_meetsOf_9 (by decide) (fun c_9 => ?_) (fun c_9 => ?_)
      · skip
        have c_9 : n ≤ i := (n_le (a := n) (b := i) (by omega) (by omega)).mp c_9
        refine lv_iload_n hxR hbR dX5_meetsOf_41 rfl (lv_at hl 2 rfl) ?_
        exact hret () a _ _ _ _ _ _ dX5_meetsOf_42 hI (by show a = sumS (fun p => nI (bitsN (strS K p n) 8)) S n; rw [ha, show i = n by omega]) (Nat.le_of_ble_eq_true rfl) (Nat.le_of_ble_eq_true rfl) rfl
      · skip
        have c_9 : i < n := Nat.lt_of_not_le (fun zz => c_9 ((n_le (a := n) (b := i) (by omega) (by omega)).mpr zz))
        refine lv_iload_n hxR hbR dX5_meetsOf_12 rfl (lv_at hl 2 rfl) ?_
        refine lv_iload_n hxR hbR dX5_meetsOf_13 rfl (lv_at hl 1 rfl) ?_
        refine lv_iload_n hxR hbR dX5_meetsOf_14 rfl (lv_at hl 3 rfl) ?_
        refine kSI (n := 2) (As := [.int (nI S), .int (nI i)]) (rest := [.int a]) (fun w => w ++ (mW E ad kp tr iv ia K R mv)) hxR hbR hmlR hts hown hK hA hl.1 (isCtx.suf _) hI (c5_has l E  S i (by first | omega | with_reducible assumption) (by first | omega | with_reducible assumption)) (lw_S q1680 q1681 q86 q1682) (by decide +kernel) rfl (Nat.le_of_ble_eq_true rfl) (Nat.le_of_ble_eq_true rfl) ⟨Nat.le_of_ble_eq_true rfl, Nat.le_of_ble_eq_true rfl⟩ (Nat.le_of_ble_eq_true rfl) dX5_meetsOf_15 (fun r_15 u H locs hp hI hz => ?_)
        have hI : wI E AR sR H locs (mW E ad kp tr iv ia K R mv) := hI
        have hp : r_15 = b2i (S.testBit i) := hp
        have hr_15 := hp
        rcases b2i_cases hr_15 with ⟨c_15, rfl⟩ | ⟨c_15, rfl⟩
        · skip
          have c_15 : S.testBit i = true := c_15
          refine lv_if_eq (tgt := 32) hxR hbR dX5_meetsOf_18 (by decide) (fun c => absurd c (by decide)) (fun _ => ?_)
          refine lv_aload_n hxR hbR dX5_meetsOf_21 rfl (lv_at hl 0 rfl) ?_
          refine lv_iload_n hxR hbR dX5_meetsOf_22 rfl (lv_at hl 3 rfl) ?_
          refine kVI (n := 1) (As := [.int (nI i)]) (rest := [.int a]) (fun w => w) hxR hbR hmlR hts hown hK hA hl.1 isCtx.id hI (c5_strangersOf l E ad kp tr iv ia K R mv n i hn (by first | omega | with_reducible assumption) (by first | omega | with_reducible assumption)) (lw_V q1706 q1708 qs45 q86 q1709) ⟨rfl, by decide +kernel⟩ 16 5 rfl rfl mW_o rfl (Nat.le_of_ble_eq_true rfl) (Nat.le_of_ble_eq_true rfl) ⟨Nat.le_of_ble_eq_true rfl, Nat.le_of_ble_eq_true rfl⟩ (Nat.le_of_ble_eq_true rfl) dX5_meetsOf_23 (fun r_23 u H locs hp hI hz => ?_)
          have hI : wI E AR sR H locs (mW E ad kp tr iv ia K R mv) := hI
          have hp : r_23 = nI (strS K i n) := hp
          have hr_23 := hp
          subst hr_23
          refine kSI (n := 1) (As := [.int (nI (strS K i n))]) (rest := [.int a]) (fun w => w ++ (mW E ad kp tr iv ia K R mv)) hxR hbR hmlR hts hown hK hA hl.1 (isCtx.suf _) hI (c5_bits l E  (strS K i n) (Nat.lt_trans (strS_lt K i n) (Nat.pow_lt_pow_right (by decide) (by omega)))) (lw_S q1683 q1684 q86 q1685) (by decide +kernel) rfl (Nat.le_of_ble_eq_true rfl) (Nat.le_of_ble_eq_true rfl) ⟨Nat.le_of_ble_eq_true rfl, Nat.le_of_ble_eq_true rfl⟩ (Nat.le_of_ble_eq_true rfl) dX5_meetsOf_26 (fun r_26 u H locs hp hI hz => ?_)
          have hI : wI E AR sR H locs (mW E ad kp tr iv ia K R mv) := hI
          have hp : r_26 = nI (bitsN (strS K i n) 8) := hp
          have hr_26 := hp
          subst hr_26
          refine lv_goto (tgt := 33) hxR hbR dX5_meetsOf_29 (by decide) ?_
          refine lv_iadd hxR hbR dX5_meetsOf_33 ?_
          refine lv_istore_n (lv' := [(2, .int (a + (nI (bitsN (strS K i n) 8)))), (0, .ref (ad 45)), (1, .int (nI S)), (3, .int (nI i))]) hxR hbR dX5_meetsOf_34 rfl hl (by decide) rfl (fun ls hl => ?_)
          refine lv_iinc (v := nI (i + 1)) (lv' := [(3, .int (nI (i + 1))), (2, .int (a + (nI (bitsN (strS K i n) 8)))), (0, .ref (ad 45)), (1, .int (nI S))]) hxR hbR dX5_meetsOf_35 hl (k := 3) rfl (show nI i + 1 = nI (i + 1) from nI_add _ 1) (by decide) rfl (fun ls hl => ?_)
          refine lv_goto (tgt := 4) hxR hbR dX5_meetsOf_38 (by decide) ?_
          exact ih_4 (a + (nI (bitsN (strS K i n) 8))) (i + 1) (by first | omega | with_reducible assumption) (by rw [ha]; first | exact (sumS_y (f := fun p => nI (bitsN (strS K p n) 8)) c_15).symm | exact (sumS_n c_15).symm) (by omega) _ _ hI _ (lv_sub hl [2, 3, 1, 0] rfl)
        · skip
          have c_15 : S.testBit i = false := c_15
          refine lv_if_eq (tgt := 32) hxR hbR dX5_meetsOf_18 (by decide) (fun _ => ?_) (fun c => absurd c (by decide))
          refine lv_iconst (v := 0) hxR hbR dX5_meetsOf_32 (by decide) ?_
          refine lv_iadd hxR hbR dX5_meetsOf_33 ?_
          refine lv_istore_n (lv' := [(2, .int (a + 0)), (0, .ref (ad 45)), (1, .int (nI S)), (3, .int (nI i))]) hxR hbR dX5_meetsOf_34 rfl hl (by decide) rfl (fun ls hl => ?_)
          refine lv_iinc (v := nI (i + 1)) (lv' := [(3, .int (nI (i + 1))), (2, .int (a + 0)), (0, .ref (ad 45)), (1, .int (nI S))]) hxR hbR dX5_meetsOf_35 hl (k := 3) rfl (show nI i + 1 = nI (i + 1) from nI_add _ 1) (by decide) rfl (fun ls hl => ?_)
          refine lv_goto (tgt := 4) hxR hbR dX5_meetsOf_38 (by decide) ?_
          exact ih_4 (a + 0) (i + 1) (by first | omega | with_reducible assumption) (by rw [ha]; first | exact (sumS_y (f := fun p => nI (bitsN (strS K p n) 8)) c_15).symm | exact (sumS_n c_15).symm) (by omega) _ _ hI _ (lv_sub hl [2, 3, 1, 0] rfl)
  exact lp_4 _ 0 0 (by first | omega | with_reducible assumption) rfl (Nat.lt_succ_self _) _ _ hI _ (lv_sub hl [2, 3, 1, 0] rfl)

theorem c5_refuse (l : Launch) (E : En) (ad : Nat → Nat) (kp tr : Option Nat) (iv : Nat → Int32) (ia K : Nat → Nat → Int32) (R : Nat → Nat → Int64) (mv : Nat → Int64) (y : Int32) (W : Nat) (hy : -y = nI W) (hW : W < 8) : CtI l E yX5_refuse cX5_refuse 2 .int 0 0 0 [.ref (ad 45), .int y] (mW E ad kp tr iv ia K R mv) (fun (r : Int32) (u : Unit) => r = y) (fun (u : Unit) => mW E ad kp tr iv (va_up ia 9 (va_up (ia 9) W (ia 9 W + 1))) K R mv) := by
  refine CtI.of (by decide +kernel) (Nat.le_of_ble_eq_true rfl) ?_
  intro pR eR sR mR aR bR tR cR AR ls QR hxR hbR hmlR hts hown hlk hnm hA hK hI hl hret
  have hl : lv_has ls 2 [(0, .ref (ad 45)), (1, .int y)] := hl
  refine lv_aload_n hxR hbR dX5_refuse_0 rfl (lv_at hl 0 rfl) ?_
  refine r_get hxR hbR hts hown hK hI okX5 (ci := 5) rfl 16 mW_o 9 (by decide) q1487 rfl (v := .ref (ad 9)) rfl dX5_refuse_1 ?_
  refine lv_iload_n hxR hbR dX5_refuse_4 rfl (lv_at hl 1 rfl) ?_
  refine lv_ineg hxR hbR dX5_refuse_5 ?_
  refine lv_as (y := nI W) hy ?_
  refine lv_dup2_11 hxR hbR dX5_refuse_6 rfl rfl ?_
  refine r_iald hxR hbR hK hI 25 (n := 8) (J := W) (f := ia 9) (v := (ia 9) W) (mW_g9 rfl) (by omega) (by decide) rfl dX5_refuse_7 ?_
  refine lv_iconst (v := 1) hxR hbR dX5_refuse_8 (by decide) ?_
  refine lv_iadd hxR hbR dX5_refuse_9 ?_
  refine r_iast (ws1 := mW E ad kp tr iv (va_up ia 9 (va_up (ia 9) W (((ia 9) W) + 1))) K R mv) hxR hbR hK hI 25 (n := 8) (J := W) (f := ia 9) (mW_g9 rfl) (by omega) (by decide) mW_a9 dX5_refuse_10 (fun H locs hI => ?_)
  refine lv_iload_n hxR hbR dX5_refuse_11 rfl (lv_at hl 1 rfl) ?_
  exact hret () y _ _ _ _ _ _ dX5_refuse_12 hI (by show y = y; rfl) (Nat.le_of_ble_eq_true rfl) (Nat.le_of_ble_eq_true rfl) rfl

theorem c5_isSet (l : Launch) (E : En) (ad : Nat → Nat) (kp tr : Option Nat) (iv : Nat → Int32) (ia K : Nat → Nat → Int32) (R : Nat → Nat → Int64) (mv : Nat → Int64) (n : Nat) (x : Int32) (hn : iv 10 = nI n) (hn8 : n ≤ 8) : CtI l E yX5_isSet cX5_isSet 2 .boolean 1 0 0 [.ref (ad 45), .int x] (mW E ad kp tr iv ia K R mv) (fun (r : Int32) (u : Unit) => r = b2i (decide (0 ≤ x.toInt ∧ x.toInt < ((2 ^ n : Nat) : Int)))) (fun (u : Unit) => mW E ad kp tr iv ia K R mv) := by
  refine CtI.of (by decide +kernel) (Nat.le_of_ble_eq_true rfl) ?_
  intro pR eR sR mR aR bR tR cR AR ls QR hxR hbR hmlR hts hown hlk hnm hA hK hI hl hret
  have hl : lv_has ls 2 [(0, .ref (ad 45)), (1, .int x)] := hl
  refine lv_iload_n hxR hbR dX5_isSet_0 rfl (lv_at hl 1 rfl) ?_
  refine lv_i2l (v := x.toInt64) hxR hbR dX5_isSet_1 rfl ?_
  refine lv_lconst (v := 0) hxR hbR dX5_isSet_2 (by decide) ?_
  refine lv_aload_n hxR hbR dX5_isSet_3 rfl (lv_at hl 0 rfl) ?_
  refine kVI (n := 0) (As := []) (rest := [.long (0 : Int64), .long x.toInt64]) (fun w => w) hxR hbR hmlR hts hown hK hA hl.1 isCtx.id hI (c5_all l E ad kp tr iv ia K R mv n hn (by first | omega | with_reducible assumption)) (lw_V q1664 q1666 qs36 q86 q1667) ⟨rfl, by decide +kernel⟩ 16 5 rfl rfl mW_o rfl (Nat.le_of_ble_eq_true rfl) (Nat.le_of_ble_eq_true rfl) ⟨Nat.le_of_ble_eq_true rfl, Nat.le_of_ble_eq_true rfl⟩ (Nat.le_of_ble_eq_true rfl) dX5_isSet_4 (fun r_4 u H locs hp hI hz => ?_)
  have hI : wI E AR sR H locs (mW E ad kp tr iv ia K R mv) := hI
  have hp : r_4 = nI (2 ^ n - 1) := hp
  have hr_4 := hp
  subst hr_4
  refine lv_i2l (v := (nI (2 ^ n - 1)).toInt64) hxR hbR dX5_isSet_7 rfl ?_
  refine kSI (n := 3) (As := [.long x.toInt64, .long (0 : Int64), .long ((nI (2 ^ n - 1)).toInt64)]) (rest := []) (fun w => w ++ (mW E ad kp tr iv ia K R mv)) hxR hbR hmlR hts hown hK hA hl.1 (isCtx.suf _) hI (c5_in l E  x.toInt64 (0 : Int64) ((nI (2 ^ n - 1)).toInt64) ) (lw_S q1619 q1620 q86 q1621) (by decide +kernel) rfl (Nat.le_of_ble_eq_true rfl) (Nat.le_of_ble_eq_true rfl) ⟨Nat.le_of_ble_eq_true rfl, Nat.le_of_ble_eq_true rfl⟩ (Nat.le_of_ble_eq_true rfl) dX5_isSet_8 (fun r_8 u H locs hp hI hz => ?_)
  have hI : wI E AR sR H locs (mW E ad kp tr iv ia K R mv) := hI
  have hp : r_8 = b2i (inL x.toInt64 (0 : Int64) ((nI (2 ^ n - 1)).toInt64)) := hp
  have hr_8 := hp
  subst hr_8
  exact hret () (b2i (inL x.toInt64 (0 : Int64) ((nI (2 ^ n - 1)).toInt64))) _ _ _ _ _ _ dX5_isSet_11 hI (by show (b2i (inL x.toInt64 (0 : Int64) ((nI (2 ^ n - 1)).toInt64))) = b2i (decide (0 ≤ x.toInt ∧ x.toInt < ((2 ^ n : Nat) : Int))); congr 1; have h8 : 2 ^ n ≤ 2 ^ 8 := Nat.pow_le_pow_right (by decide) hn8; have h1 : 1 ≤ 2 ^ n := Nat.one_le_two_pow; rw [inL, Int32.toInt_toInt64, Int32.toInt_toInt64, nI_toInt (by omega)]; exact decide_eq_decide.mpr ⟨fun h => ⟨h.1, by omega⟩, fun h => ⟨h.1, by omega⟩⟩) (Nat.le_of_ble_eq_true rfl) (Nat.le_of_ble_eq_true rfl) (b2i_nar _)
