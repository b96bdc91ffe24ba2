/-- a String's hash, letter by letter -/
def hshF (f : Nat → Int32) : Nat → Int32
  | 0 => 0
  | k + 1 => 31 * hshF f k + (f k &&& 255)

theorem j15_signedHashCode (l : Launch) (E : En) (qa : Nat) (na : Nat) (fa : Nat → Int32) (x : Nat) (hx : x = na ∧ na ≤ 1000) : CtI l E yJ15_signedHashCode cJ15_signedHashCode 6 .int 0 0 0 [.int 0, .ref qa, .int 0, .int (nI x)] (byW E qa na fa) (fun (r : Int32) (u : Unit) => r = hshF fa x) (fun (u : Unit) => byW E qa na fa) := by
  refine CtI.of (by decide +kernel) (Nat.le_of_ble_eq_true rfl) ?_
  intro pR eR sR mR aR bR tR cR AR ls QR hxR hbR hmlR hts hown hlk hnm hA hK hI hl hret
  have hl : lv_has ls 6 [(0, .int 0), (1, .ref qa), (2, .int 0), (3, .int (nI x))] := hl
  refine lv_iload_n hxR hbR dJ15_signedHashCode_0 rfl (lv_at hl 2 rfl) ?_
  refine lv_iload_n hxR hbR dJ15_signedHashCode_1 rfl (lv_at hl 3 rfl) ?_
  refine lv_iadd hxR hbR dJ15_signedHashCode_2 ?_
  refine lv_as (y := nI (0 + x)) (nI_add 0 x) ?_
  refine lv_as (y := nI x) (by rw [Nat.zero_add]) ?_
  refine lv_istore (lv' := [(4, .int (nI x)), (0, .int 0), (1, .ref qa), (2, .int 0), (3, .int (nI x))]) hxR hbR dJ15_signedHashCode_3 hl (by decide) rfl (fun ls hl => ?_)
  refine lv_iload_n hxR hbR dJ15_signedHashCode_5 rfl (lv_at hl 3 rfl) ?_
  refine lv_istore (lv' := [(5, .int 0), (4, .int (nI x)), (0, .int 0), (1, .ref qa), (2, .int 0), (3, .int (nI x))]) hxR hbR dJ15_signedHashCode_6 hl (by decide) rfl (fun ls hl => ?_)
  have lp_8 : ∀ (fu : Nat) (j : Nat) (h : Int32), (j ≤ x) → (h = hshF fa j) → x - j < fu → ∀ (H : Heap) (locs : List Loc), wI E AR sR H locs (byW E qa na fa) → ∀ ls : Array Slot, lv_has ls 6 [(0, .int h), (1, .ref qa), (2, .int 0), (3, .int (nI x)), (4, .int (nI x)), (5, .int (nI j))] → W pR l eR (rmF 0 0 0) sR mR aR bR tR cR H locs 0 0 QR (F0 mR 8 ls []) := by
    intro fu
    induction fu with
    | zero =>
      intro j h hj hh hfu
      exact absurd hfu (Nat.not_lt_zero _)
    | succ fu ih_8 =>
      intro j h hj hh hfu H locs hI ls hl
      refine lv_iload hxR hbR dJ15_signedHashCode_8 (lv_at hl 5 rfl) ?_
      refine lv_iload hxR hbR dJ15_signedHashCode_10 (lv_at hl 4 rfl) ?_
      refine lv_icmp_ge (tgt := 35) hxR hbR dJ15_signedHashCode_12 (by decide) (fun c_12 => ?_) (fun c_12 => ?_)
      · skip
        have c_12 : x ≤ j := (n_le (a := x) (b := j) (by omega) (by omega)).mp c_12
        refine lv_iload_n hxR hbR dJ15_signedHashCode_35 rfl (lv_at hl 0 rfl) ?_
        exact hret () h _ _ _ _ _ _ dJ15_signedHashCode_36 hI (by show h = hshF fa x; rw [hh, show j = x by omega]) (Nat.le_of_ble_eq_true rfl) (Nat.le_of_ble_eq_true rfl) rfl
      · skip
        have c_12 : j < x := Nat.lt_of_not_le (fun zz => c_12 ((n_le (a := x) (b := j) (by omega) (by omega)).mpr zz))
        refine lv_bipush (v := 31) hxR hbR dJ15_signedHashCode_15 (by decide) ?_
        refine lv_iload_n hxR hbR dJ15_signedHashCode_17 rfl (lv_at hl 0 rfl) ?_
        refine lv_imul hxR hbR dJ15_signedHashCode_18 ?_
        refine lv_aload_n hxR hbR dJ15_signedHashCode_19 rfl (lv_at hl 1 rfl) ?_
        refine lv_iload hxR hbR dJ15_signedHashCode_20 (lv_at hl 5 rfl) ?_
        refine va_bald hxR hbR hK.1 hI.1 0 4 rfl rfl (vp_in_nI (by omega) (by omega)) dJ15_signedHashCode_22 ?_
        refine lv_as (y := fa j) (by rw [nI_clamp (by omega)]) ?_
        refine lv_sipush (v := 255) hxR hbR dJ15_signedHashCode_23 (by decide) ?_
        refine lv_iand hxR hbR dJ15_signedHashCode_26 ?_
        refine lv_iadd hxR hbR dJ15_signedHashCode_27 ?_
        refine lv_istore_n (lv' := [(0, .int ((31 * h) + ((fa j) &&& 255))), (1, .ref qa), (2, .int 0), (3, .int (nI x)), (4, .int (nI x)), (5, .int (nI j))]) hxR hbR dJ15_signedHashCode_28 rfl hl (by decide) rfl (fun ls hl => ?_)
        refine lv_iinc (v := nI (j + 1)) (lv' := [(5, .int (nI (j + 1))), (0, .int ((31 * h) + ((fa j) &&& 255))), (1, .ref qa), (2, .int 0), (3, .int (nI x)), (4, .int (nI x))]) hxR hbR dJ15_signedHashCode_29 hl (k := 5) rfl (show nI j + 1 = nI (j + 1) from nI_add _ 1) (by decide) rfl (fun ls hl => ?_)
        refine lv_goto (tgt := 8) hxR hbR dJ15_signedHashCode_32 (by decide) ?_
        exact ih_8 (j + 1) ((31 * h) + ((fa j) &&& 255)) (by first | omega | with_reducible assumption) (by rw [hh]; rfl) (by omega) _ _ hI _ (lv_sub hl [1, 2, 3, 4, 5, 0] rfl)
  exact lp_8 _ 0 0 (by first | omega | with_reducible assumption) rfl (Nat.lt_succ_self _) _ _ hI _ (lv_sub hl [2, 3, 4, 5, 1, 0] rfl)
