def heldN (hd : Nat → Option Nat) : Nat → Nat
  | 0 => 0
  | s + 1 => heldN hd s + if hd s = none then 0 else 1

theorem c0_held (l : Launch) (E : En) (ad : Nat → Nat) (iv : Nat → Int32) (ch : Nat → Int32) (rd : Nat → Int32) (tp : Nat → Int32) (rf : Nat → Int32) (hd : Nat → Option Nat) (nw : Nat) (tr : Nat) (gr : Nat) (dy : Nat) (im : Option Nat)   : CtI l E yX0_held cX0_held 3 .int 0 0 0 [.ref (ad 11)] (xW E ad iv ch rd tp rf hd nw tr gr dy im) (fun (r : Int32) (u : Unit) => r = nI (heldN hd 8)) (fun (u : Unit) => xW E ad iv ch rd tp rf hd nw tr gr dy im) := by
  refine CtI.of (by decide +kernel) (Nat.le_of_ble_eq_true rfl) ?_
  intro pR eR sR mR aR bR tR cR AR ls QR hxR hbR hmlR hts hown hlk hnm hA hK hI hl hret
  have hl : lv_has ls 3 [(0, .ref (ad 11))] := hl
  refine lv_iconst (v := 0) hxR hbR dX0_held_0 (by decide) ?_
  refine lv_istore_n (lv' := [(1, .int 0), (0, .ref (ad 11))]) hxR hbR dX0_held_1 rfl hl (by decide) rfl (fun ls hl => ?_)
  refine lv_iconst (v := 0) hxR hbR dX0_held_2 (by decide) ?_
  refine lv_istore_n (lv' := [(2, .int 0), (1, .int 0), (0, .ref (ad 11))]) hxR hbR dX0_held_3 rfl hl (by decide) rfl (fun ls hl => ?_)
  have lp_4 : ∀ (fu : Nat) (a : Nat) (p : Nat), (p ≤ 8) → (a = heldN hd p) → 8 - p < fu → ∀ (H : Heap) (locs : List Loc), wI E AR sR H locs (xW E ad iv ch rd tp rf hd nw tr gr dy im) → ∀ ls : Array Slot, lv_has ls 3 [(0, .ref (ad 11)), (1, .int (nI a)), (2, .int (nI p))] → W pR l eR (rmF 0 0 0) sR mR aR bR tR cR H locs 0 0 QR (F0 mR 4 ls []) := by
    intro fu
    induction fu with
    | zero =>
      intro a p hp ha hfu
      exact absurd hfu (Nat.not_lt_zero _)
    | succ fu ih_4 =>
      intro a p hp ha hfu H locs hI ls hl
      refine lv_iload_n hxR hbR dX0_held_4 rfl (lv_at hl 2 rfl) ?_
      refine lv_bipush (v := 8) hxR hbR dX0_held_5 (by decide) ?_
      refine lv_icmp_ge (tgt := 36) hxR hbR dX0_held_7 (by decide) (fun c_7 => ?_) (fun c_7 => ?_)
      · skip
        have c_7 : 8 ≤ p := (n_le (a := 8) (b := p) (by omega) (by omega)).mp c_7
        refine lv_iload_n hxR hbR dX0_held_36 rfl (lv_at hl 1 rfl) ?_
        exact hret () (nI a) _ _ _ _ _ _ dX0_held_37 hI (by show (nI a) = nI (heldN hd 8); rw [ha, show p = 8 by omega]) (Nat.le_of_ble_eq_true rfl) (Nat.le_of_ble_eq_true rfl) rfl
      · skip
        have c_7 : p < 8 := Nat.lt_of_not_le (fun zz => c_7 ((n_le (a := 8) (b := p) (by omega) (by omega)).mpr zz))
        refine lv_iload_n hxR hbR dX0_held_10 rfl (lv_at hl 1 rfl) ?_
        refine lv_aload_n hxR hbR dX0_held_11 rfl (lv_at hl 0 rfl) ?_
        refine r_get hxR hbR hts hown hK hI okX0 (ci := 0) rfl 8 xW_o 7 (by decide) q271 rfl (v := .ref (ad 7)) rfl dX0_held_12 ?_
        refine lv_iload_n hxR hbR dX0_held_15 rfl (lv_at hl 2 rfl) ?_
        refine r_aald hxR hbR hK hI 11 7 (r := ad (20 + p)) rfl rfl (n := 8) (J := p) rfl (by omega) (by decide) rfl dX0_held_16 ?_
        refine r_get hxR hbR hts hown hK hI okX4 (ci := 4) rfl p (xW_s p (by omega)) 0 (by decide) q258 rfl (v := va_rf (hd p)) rfl dX0_held_17 ?_
        rcases Option.eq_none_or_eq_some (hd p) with c_20 | ⟨z_20, c_20⟩
        · rw [c_20]
          refine lv_ifnullN (tgt := 27) hxR hbR dX0_held_20 (by decide) ?_
          refine lv_iconst (v := 0) hxR hbR dX0_held_27 (by decide) ?_
          refine lv_iadd hxR hbR dX0_held_28 ?_
          refine lv_as (y := nI a) (nI_add a 0) ?_
          refine lv_istore_n (lv' := [(1, .int (nI a)), (0, .ref (ad 11)), (2, .int (nI p))]) hxR hbR dX0_held_29 rfl hl (by decide) rfl (fun ls hl => ?_)
          refine lv_iinc (v := nI (p + 1)) (lv' := [(2, .int (nI (p + 1))), (1, .int (nI a)), (0, .ref (ad 11))]) hxR hbR dX0_held_30 hl (k := 2) rfl (show nI p + 1 = nI (p + 1) from nI_add _ 1) (by decide) rfl (fun ls hl => ?_)
          refine lv_goto (tgt := 4) hxR hbR dX0_held_33 (by decide) ?_
          exact ih_4 a (p + 1) (by first | omega | with_reducible assumption) (by rw [ha, heldN]; first | (rw [if_pos c_20]; rfl) | (rw [if_neg c_20]) | simp_all) (by omega) _ _ hI _ (lv_sub hl [2, 1, 0] rfl)
        · rw [c_20]
          have e_20 := c_20
          have c_20 : ¬ (hd p) = none := by rw [e_20]; exact fun h => nomatch h
          refine lv_ifnull hxR hbR dX0_held_20 ?_
          refine lv_iconst (v := 1) hxR hbR dX0_held_23 (by decide) ?_
          refine lv_goto (tgt := 28) hxR hbR dX0_held_24 (by decide) ?_
          refine lv_iadd hxR hbR dX0_held_28 ?_
          refine lv_as (y := nI (a + 1)) (nI_add a 1) ?_
          refine lv_istore_n (lv' := [(1, .int (nI (a + 1))), (0, .ref (ad 11)), (2, .int (nI p))]) hxR hbR dX0_held_29 rfl hl (by decide) rfl (fun ls hl => ?_)
          refine lv_iinc (v := nI (p + 1)) (lv' := [(2, .int (nI (p + 1))), (1, .int (nI (a + 1))), (0, .ref (ad 11))]) hxR hbR dX0_held_30 hl (k := 2) rfl (show nI p + 1 = nI (p + 1) from nI_add _ 1) (by decide) rfl (fun ls hl => ?_)
          refine lv_goto (tgt := 4) hxR hbR dX0_held_33 (by decide) ?_
          exact ih_4 (a + 1) (p + 1) (by first | omega | with_reducible assumption) (by rw [ha, heldN]; first | (rw [if_pos c_20]; rfl) | (rw [if_neg c_20]) | simp_all) (by omega) _ _ hI _ (lv_sub hl [2, 1, 0] rfl)
  exact lp_4 _ 0 0 (by first | omega | with_reducible assumption) rfl (Nat.lt_succ_self _) _ _ hI _ (lv_sub hl [2, 1, 0] rfl)
