/-- the letters of a String constant -/
def strEq (f : Nat → Int32) (n i : Nat) : Prop := n = sLen.getD i 0 ∧ ∀ j, j < n → f j = (sByt.getD i []).getD j 0
def eqK (f : Nat → Int32) (n i : Nat) : Bool := decide (n = sLen.getD i 0) && (List.range n).all (fun j => f j == (sByt.getD i []).getD j 0)
theorem eqK_iff {f : Nat → Int32} {n i : Nat} : eqK f n i = true ↔ strEq f n i := by
  unfold eqK strEq
  rw [Bool.and_eq_true, decide_eq_true_iff, List.all_eq_true]
  constructor
  · exact fun h => ⟨h.1, fun j hj => beq_iff_eq.mp (h.2 j (List.mem_range.mpr hj))⟩
  · exact fun h => ⟨h.1, fun j hj => beq_iff_eq.mpr (h.2 j (List.mem_range.mp hj))⟩
theorem eqK_t {f : Nat → Int32} {n i : Nat} (h : eqK f n i = true) : strEq f n i := eqK_iff.mp h
theorem eqK_f {f : Nat → Int32} {n i : Nat} (h : eqK f n i = false) : ¬ strEq f n i := fun z => by rw [eqK_iff.mpr z] at h; cases h
theorem eqK_1 {f : Nat → Int32} {n i : Nat} (h : strEq f n i) : eqK f n i = true := eqK_iff.mpr h
theorem eqK_0 {f : Nat → Int32} {n i : Nat} (h : ¬ strEq f n i) : eqK f n i = false := by cases e : eqK f n i; exact rfl; exact absurd (eqK_iff.mp e) h
theorem sLen_7 : ∀ i, sLen.getD i 0 ≤ 7 := by
  intro i
  rcases i with _ | _ | _ | _ | _ | _ | _ | _ | i
  all_goals first | decide | (show (0 : Nat) ≤ 7; decide)

theorem j17_equals (l : Launch) (E : En) (qa : Nat) (na : Nat) (fa : Nat → Int32) (i : Nat) (hi : i < 8) (hna : na ≤ 1000) : CtI l E yJ17_equals cJ17_equals 3 .boolean 0 0 0 [.ref qa, .ref (E.1.2.2 i)] (byW E qa na fa) (fun (r : Int32) (u : Unit) => r = b2i (eqK fa na i)) (fun (u : Unit) => byW E qa na fa) := by
  have hs7 := sLen_7 i
  refine CtI.of (by decide +kernel) (Nat.le_of_ble_eq_true rfl) ?_
  intro pR eR sR mR aR bR tR cR AR ls QR hxR hbR hmlR hts hown hlk hnm hA hK hI hl hret
  have hl : lv_has ls 3 [(0, .ref qa), (1, .ref (E.1.2.2 i))] := hl
  refine lv_aload_n hxR hbR dJ17_equals_0 rfl (lv_at hl 0 rfl) ?_
  refine r_alen (v := nI na) hxR hbR hK hI 0 4 rfl rfl rfl dJ17_equals_1 ?_
  refine lv_aload_n hxR hbR dJ17_equals_2 rfl (lv_at hl 1 rfl) ?_
  refine va_tlen hxR hbR (hK.2.2.1.1 i hi).2.2.2 hI.2.2 (v := nI (sLen.getD i 0)) rfl dJ17_equals_3 ?_
  refine lv_icmp_ne (tgt := 34) hxR hbR dJ17_equals_4 (by decide) (fun c_4 => ?_) (fun c_4 => ?_)
  · skip
    have c_4 : ¬ na = (sLen.getD i 0) := fun zz => c_4 ((n_eq (a := na) (b := (sLen.getD i 0)) (by omega) (by omega)).mpr zz)
    refine lv_iconst (v := 0) hxR hbR dJ17_equals_34 (by decide) ?_
    exact hret () 0 _ _ _ _ _ _ dJ17_equals_35 hI (by show 0 = b2i (eqK fa na i); rw [eqK_0 (fun z => c_4 z.1)]; rfl) (Nat.le_of_ble_eq_true rfl) (Nat.le_of_ble_eq_true rfl) rfl
  · skip
    have c_4 : na = (sLen.getD i 0) := (n_eq (a := na) (b := (sLen.getD i 0)) (by omega) (by omega)).mp c_4
    refine lv_iconst (v := 0) hxR hbR dJ17_equals_7 (by decide) ?_
    refine lv_istore_n (lv' := [(2, .int 0), (0, .ref qa), (1, .ref (E.1.2.2 i))]) hxR hbR dJ17_equals_8 rfl hl (by decide) rfl (fun ls hl => ?_)
    have lp_9 : ∀ (fu : Nat) (j : Nat), (j ≤ na) → (∀ z, z < j → fa z = (sByt.getD i []).getD z 0) → na - j < fu → ∀ (H : Heap) (locs : List Loc), wI E AR sR H locs (byW E qa na fa) → ∀ ls : Array Slot, lv_has ls 3 [(0, .ref qa), (1, .ref (E.1.2.2 i)), (2, .int (nI j))] → W pR l eR (rmF 0 0 0) sR mR aR bR tR cR H locs 0 0 QR (F0 mR 9 ls []) := by
      intro fu
      induction fu with
      | zero =>
        intro j hj hall hfu
        exact absurd hfu (Nat.not_lt_zero _)
      | succ fu ih_9 =>
        intro j hj hall hfu H locs hI ls hl
        refine lv_iload_n hxR hbR dJ17_equals_9 rfl (lv_at hl 2 rfl) ?_
        refine lv_aload_n hxR hbR dJ17_equals_10 rfl (lv_at hl 0 rfl) ?_
        refine r_alen (v := nI na) hxR hbR hK hI 0 4 rfl rfl rfl dJ17_equals_11 ?_
        refine lv_icmp_ge (tgt := 32) hxR hbR dJ17_equals_12 (by decide) (fun c_12 => ?_) (fun c_12 => ?_)
        · skip
          have c_12 : na ≤ j := (n_le (a := na) (b := j) (by omega) (by omega)).mp c_12
          refine lv_iconst (v := 1) hxR hbR dJ17_equals_32 (by decide) ?_
          exact hret () 1 _ _ _ _ _ _ dJ17_equals_33 hI (by show 1 = b2i (eqK fa na i); rw [eqK_1 ⟨by omega, fun z hz => hall z (by omega)⟩]; rfl) (Nat.le_of_ble_eq_true rfl) (Nat.le_of_ble_eq_true rfl) rfl
        · skip
          have c_12 : j < na := Nat.lt_of_not_le (fun zz => c_12 ((n_le (a := na) (b := j) (by omega) (by omega)).mpr zz))
          refine lv_aload_n hxR hbR dJ17_equals_15 rfl (lv_at hl 0 rfl) ?_
          refine lv_iload_n hxR hbR dJ17_equals_16 rfl (lv_at hl 2 rfl) ?_
          refine va_bald hxR hbR hK.1 hI.1 0 4 rfl rfl (vp_in_nI (by omega) (by omega)) dJ17_equals_17 ?_
          refine lv_as (y := fa j) (by rw [nI_clamp (by omega)]) ?_
          refine lv_aload_n hxR hbR dJ17_equals_18 rfl (lv_at hl 1 rfl) ?_
          refine lv_iload_n hxR hbR dJ17_equals_19 rfl (lv_at hl 2 rfl) ?_
          refine va_tb hxR hbR (hK.2.2.1.1 i hi).2.2.2 hI.2.2 (vp_in_nI (n := j) (by omega) (by omega)) (v := .int ((sByt.getD i []).getD j 0)) (by rw [nI_clamp (by omega)]) dJ17_equals_20 ?_
          refine lv_icmp_eq (tgt := 26) hxR hbR dJ17_equals_21 (by decide) (fun c_21 => ?_) (fun c_21 => ?_)
          · skip
            have i_21 : (fa j).toInt = ((sByt.getD i []).getD j 0).toInt := by have zz := i_eq.mp c_21; exact zz
            refine lv_iinc (v := nI (j + 1)) (lv' := [(2, .int (nI (j + 1))), (0, .ref qa), (1, .ref (E.1.2.2 i))]) hxR hbR dJ17_equals_26 hl (k := 2) rfl (show nI j + 1 = nI (j + 1) from nI_add _ 1) (by decide) rfl (fun ls hl => ?_)
            refine lv_goto (tgt := 9) hxR hbR dJ17_equals_29 (by decide) ?_
            exact ih_9 (j + 1) (by first | omega | with_reducible assumption) (fun z h => by rcases Nat.lt_succ_iff_lt_or_eq.mp h with h | h; exact hall z h; (subst h; exact c_21)) (by omega) _ _ hI _ (lv_sub hl [1, 2, 0] rfl)
          · skip
            have i_21 : ¬ ((fa j).toInt = ((sByt.getD i []).getD j 0).toInt) := by have zz := mt i_eq.mpr c_21; exact zz
            refine lv_iconst (v := 0) hxR hbR dJ17_equals_24 (by decide) ?_
            exact hret () 0 _ _ _ _ _ _ dJ17_equals_25 hI (by show 0 = b2i (eqK fa na i); rw [eqK_0 (fun z => c_21 (z.2 j (by omega)))]; rfl) (Nat.le_of_ble_eq_true rfl) (Nat.le_of_ble_eq_true rfl) rfl
    exact lp_9 _ 0 (by first | omega | with_reducible assumption) (fun z h => absurd h (Nat.not_lt_zero _)) (Nat.lt_succ_self _) _ _ hI _ (lv_sub hl [1, 2, 0] rfl)
