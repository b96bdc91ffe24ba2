theorem put_0 (R : Nat → Int64) (k : Nat) (v : Int64) : upd (fun j => (R j).toInt32) k (vp_nar .byte v.toInt32.toInt8.toInt32) = fun j => (va_up R k (fitV (nI 0) v) j).toInt32 := by
  funext j
  by_cases e : j = k
  · subst e; rw [va_up_s]; simp [upd, vp_nar, narrow, fitV, nI]
  · rw [va_up_n e]; simp [upd, e]
theorem put_1 (R : Nat → Int64) (k : Nat) (v : Int64) : upd (fun j => (R j).toInt32) k (vp_nar .short v.toInt32.toInt16.toInt32) = fun j => (va_up R k (fitV (nI 1) v) j).toInt32 := by
  funext j
  by_cases e : j = k
  · subst e; rw [va_up_s]; simp [upd, vp_nar, narrow, fitV, nI]
  · rw [va_up_n e]; simp [upd, e]
theorem put_2 (R : Nat → Int64) (k : Nat) (v : Int64) : upd (fun j => (R j).toInt32) k v.toInt32 = fun j => (va_up R k (fitV (nI 2) v) j).toInt32 := by
  funext j
  by_cases e : j = k
  · subst e; rw [va_up_s]; simp [upd, fitV, nI]
  · rw [va_up_n e]; simp [upd, e]
theorem put_3 (R : Nat → Int64) (k : Nat) (v : Int64) : vp_updL R k v = va_up R k (fitV (nI 3) v) := by
  funext j
  by_cases e : j = k
  · subst e; rw [va_up_s]; simp [vp_updL, fitV, nI]
  · rw [va_up_n e]; simp [vp_updL, e]
theorem put_4 (R : Nat → Int64) (k : Nat) (v : Int64) {x : Int32} (h : x = if v = 0 then 0 else 1) : upd (fun j => (R j).toInt32) k (vp_nar .boolean x) = fun j => (va_up R k (fitV (nI 4) v) j).toInt32 := by
  subst h
  funext j
  by_cases e : j = k
  · subst e; rw [va_up_s]
    by_cases h : v = 0
    · simp [upd, vp_nar, narrow, fitV, nI, h]
    · simp [upd, vp_nar, narrow, fitV, nI, h]
  · rw [va_up_n e]; simp [upd, e]
theorem lg_cmp_z {v : Int64} : lg_cmp v 0 = 0 ↔ v = 0 := by
  unfold lg_cmp
  constructor
  · intro h
    split at h
    · exact absurd h (by decide)
    · split at h
      · assumption
      · exact absurd h (by decide)
  · intro h
    subst h
    decide
theorem z64 : (0 : Int64).toInt32 = 0 := by decide
theorem row0_0 (E : En) (q n : Nat) : rowW E q 0 n (fun _ => 0) = [(q, .inl (E.2 4, n, .inl (fun _ => 0)))] := by unfold rowW rowE; rw [if_neg (by decide)]; simp only [z64]; rfl
theorem row0_1 (E : En) (q n : Nat) : rowW E q 1 n (fun _ => 0) = [(q, .inl (E.2 5, n, .inl (fun _ => 0)))] := by unfold rowW rowE; rw [if_neg (by decide)]; simp only [z64]; rfl
theorem row0_2 (E : En) (q n : Nat) : rowW E q 2 n (fun _ => 0) = [(q, .inl (E.2 0, n, .inl (fun _ => 0)))] := by unfold rowW rowE; rw [if_neg (by decide)]; simp only [z64]; rfl
theorem row0_3 (E : En) (q n : Nat) : rowW E q 3 n (fun _ => 0) = [(q, .inl (E.2 1, n, .inr (.inl (fun _ => 0))))] := by unfold rowW rowE; rw [if_pos rfl]
theorem row0_4 (E : En) (q n : Nat) : rowW E q 4 n (fun _ => 0) = [(q, .inl (E.2 6, n, .inl (fun _ => 0)))] := by unfold rowW rowE; rw [if_neg (by decide)]; simp only [z64]; rfl
theorem el_z {x : Int64} (h : rOk 4 x) (c : x.toInt32 = 0) : x = 0 := by
  rcases h.2 rfl with e | e
  · exact e
  · subst e; exact absurd c (by decide)
theorem el_o {x : Int64} (h : rOk 4 x) (c : ¬ x.toInt32 = 0) : x = 1 := by
  rcases h.2 rfl with e | e
  · subst e; exact absurd z64 c
  · exact e

theorem nat_le_of {x : Int32} {m : Nat} (h0 : 0 ≤ x.toInt) (h1 : x.toInt ≤ (m : Int)) : ∃ N, N ≤ m ∧ x = nI N := by
  refine ⟨x.toNatClampNeg, ?_, ?_⟩
  · show x.toInt.toNat ≤ m
    omega
  · apply Int32.toInt_inj.mp
    have hx : x.toInt < 2 ^ 31 := Int32.toInt_lt x
    rw [nI_toInt (by show x.toInt.toNat < 2 ^ 31; omega)]
    show x.toInt = (x.toInt.toNat : Int)
    omega

theorem c0_sortOf_0 (l : Launch) (E : En) (qw : Nat) (nw : Nat) (Rw : Nat → Int64)   : CtI l E yX0_sortOf cX0_sortOf 1 .int 0 0 0 [.ref qw] (rowW E qw 0 nw Rw) (fun (r : Int32) (u : Unit) => r = 0) (fun (u : Unit) => rowW E qw 0 nw Rw) := by
  refine CtI.of (by decide +kernel) (Nat.le_of_ble_eq_true rfl) ?_
  intro pR eR sR mR aR bR tR cR AR ls QR hxR hbR hmlR hts hown hlk hnm hA hK hI hl hret
  have hl : lv_has ls 1 [(0, .ref qw)] := hl
  refine lv_aload_n hxR hbR dX0_sortOf_0 rfl (lv_at hl 0 rfl) ?_
  refine r_instT hxR hbR hts hown q467 (row_self hK (so := 0) (by decide)) (row_isA hK hI (q0 := 0) (by decide) rfl) dX0_sortOf_1 ?_
  refine lv_if_eq (tgt := 9) hxR hbR dX0_sortOf_4 (by decide) (fun c => absurd c (by decide)) (fun _ => ?_)
  refine lv_iconst (v := 0) hxR hbR dX0_sortOf_7 (by decide) ?_
  exact hret () 0 _ _ _ _ _ _ dX0_sortOf_8 hI (by first | rfl | trivial | assumption | simp_all) (Nat.le_of_ble_eq_true rfl) (Nat.le_of_ble_eq_true rfl) rfl

theorem c0_sortOf_1 (l : Launch) (E : En) (qw : Nat) (nw : Nat) (Rw : Nat → Int64)   : CtI l E yX0_sortOf cX0_sortOf 1 .int 0 0 0 [.ref qw] (rowW E qw 1 nw Rw) (fun (r : Int32) (u : Unit) => r = 1) (fun (u : Unit) => rowW E qw 1 nw Rw) := by
  refine CtI.of (by decide +kernel) (Nat.le_of_ble_eq_true rfl) ?_
  intro pR eR sR mR aR bR tR cR AR ls QR hxR hbR hmlR hts hown hlk hnm hA hK hI hl hret
  have hl : lv_has ls 1 [(0, .ref qw)] := hl
  refine lv_aload_n hxR hbR dX0_sortOf_0 rfl (lv_at hl 0 rfl) ?_
  refine r_instF hxR hbR hts hown q467 (va_Nc.iA (a := "[S") (b := "[B") (iA.no hK.xw (by decide +kernel))) (row_isA hK hI (q0 := 0) (by decide) rfl) dX0_sortOf_1 ?_
  refine lv_if_eq (tgt := 9) hxR hbR dX0_sortOf_4 (by decide) (fun _ => ?_) (fun c => absurd c (by decide))
  refine lv_aload_n hxR hbR dX0_sortOf_9 rfl (lv_at hl 0 rfl) ?_
  refine r_instT hxR hbR hts hown q468 (row_self hK (so := 1) (by decide)) (row_isA hK hI (q0 := 0) (by decide) rfl) dX0_sortOf_10 ?_
  refine lv_if_eq (tgt := 18) hxR hbR dX0_sortOf_13 (by decide) (fun c => absurd c (by decide)) (fun _ => ?_)
  refine lv_iconst (v := 1) hxR hbR dX0_sortOf_16 (by decide) ?_
  exact hret () 1 _ _ _ _ _ _ dX0_sortOf_17 hI (by first | rfl | trivial | assumption | simp_all) (Nat.le_of_ble_eq_true rfl) (Nat.le_of_ble_eq_true rfl) rfl

theorem c0_sortOf_2 (l : Launch) (E : En) (qw : Nat) (nw : Nat) (Rw : Nat → Int64)   : CtI l E yX0_sortOf cX0_sortOf 1 .int 0 0 0 [.ref qw] (rowW E qw 2 nw Rw) (fun (r : Int32) (u : Unit) => r = 2) (fun (u : Unit) => rowW E qw 2 nw Rw) := by
  refine CtI.of (by decide +kernel) (Nat.le_of_ble_eq_true rfl) ?_
  intro pR eR sR mR aR bR tR cR AR ls QR hxR hbR hmlR hts hown hlk hnm hA hK hI hl hret
  have hl : lv_has ls 1 [(0, .ref qw)] := hl
  refine lv_aload_n hxR hbR dX0_sortOf_0 rfl (lv_at hl 0 rfl) ?_
  refine r_instF hxR hbR hts hown q467 (va_Nc.iA (a := "[I") (b := "[B") (iA.no hK.xw (by decide +kernel))) (row_isA hK hI (q0 := 0) (by decide) rfl) dX0_sortOf_1 ?_
  refine lv_if_eq (tgt := 9) hxR hbR dX0_sortOf_4 (by decide) (fun _ => ?_) (fun c => absurd c (by decide))
  refine lv_aload_n hxR hbR dX0_sortOf_9 rfl (lv_at hl 0 rfl) ?_
  refine r_instF hxR hbR hts hown q468 (va_Nc.iA (a := "[I") (b := "[S") (iA.no hK.xw (by decide +kernel))) (row_isA hK hI (q0 := 0) (by decide) rfl) dX0_sortOf_10 ?_
  refine lv_if_eq (tgt := 18) hxR hbR dX0_sortOf_13 (by decide) (fun _ => ?_) (fun c => absurd c (by decide))
  refine lv_aload_n hxR hbR dX0_sortOf_18 rfl (lv_at hl 0 rfl) ?_
  refine r_instT hxR hbR hts hown q469 (row_self hK (so := 2) (by decide)) (row_isA hK hI (q0 := 0) (by decide) rfl) dX0_sortOf_19 ?_
  refine lv_if_eq (tgt := 27) hxR hbR dX0_sortOf_22 (by decide) (fun c => absurd c (by decide)) (fun _ => ?_)
  refine lv_iconst (v := 2) hxR hbR dX0_sortOf_25 (by decide) ?_
  exact hret () 2 _ _ _ _ _ _ dX0_sortOf_26 hI (by first | rfl | trivial | assumption | simp_all) (Nat.le_of_ble_eq_true rfl) (Nat.le_of_ble_eq_true rfl) rfl

theorem c0_sortOf_3 (l : Launch) (E : En) (qw : Nat) (nw : Nat) (Rw : Nat → Int64)   : CtI l E yX0_sortOf cX0_sortOf 1 .int 0 0 0 [.ref qw] (rowW E qw 3 nw Rw) (fun (r : Int32) (u : Unit) => r = 3) (fun (u : Unit) => rowW E qw 3 nw Rw) := by
  refine CtI.of (by decide +kernel) (Nat.le_of_ble_eq_true rfl) ?_
  intro pR eR sR mR aR bR tR cR AR ls QR hxR hbR hmlR hts hown hlk hnm hA hK hI hl hret
  have hl : lv_has ls 1 [(0, .ref qw)] := hl
  refine lv_aload_n hxR hbR dX0_sortOf_0 rfl (lv_at hl 0 rfl) ?_
  refine r_instF hxR hbR hts hown q467 (va_Nc.iA (a := "[J") (b := "[B") (iA.no hK.xw (by decide +kernel))) (row_isA hK hI (q0 := 0) (by decide) rfl) dX0_sortOf_1 ?_
  refine lv_if_eq (tgt := 9) hxR hbR dX0_sortOf_4 (by decide) (fun _ => ?_) (fun c => absurd c (by decide))
  refine lv_aload_n hxR hbR dX0_sortOf_9 rfl (lv_at hl 0 rfl) ?_
  refine r_instF hxR hbR hts hown q468 (va_Nc.iA (a := "[J") (b := "[S") (iA.no hK.xw (by decide +kernel))) (row_isA hK hI (q0 := 0) (by decide) rfl) dX0_sortOf_10 ?_
  refine lv_if_eq (tgt := 18) hxR hbR dX0_sortOf_13 (by decide) (fun _ => ?_) (fun c => absurd c (by decide))
  refine lv_aload_n hxR hbR dX0_sortOf_18 rfl (lv_at hl 0 rfl) ?_
  refine r_instF hxR hbR hts hown q469 (va_Nc.iA (a := "[J") (b := "[I") (iA.no hK.xw (by decide +kernel))) (row_isA hK hI (q0 := 0) (by decide) rfl) dX0_sortOf_19 ?_
  refine lv_if_eq (tgt := 27) hxR hbR dX0_sortOf_22 (by decide) (fun _ => ?_) (fun c => absurd c (by decide))
  refine lv_aload_n hxR hbR dX0_sortOf_27 rfl (lv_at hl 0 rfl) ?_
  refine r_instT hxR hbR hts hown q470 (row_self hK (so := 3) (by decide)) (row_isA hK hI (q0 := 0) (by decide) rfl) dX0_sortOf_28 ?_
  refine lv_if_eq (tgt := 38) hxR hbR dX0_sortOf_31 (by decide) (fun c => absurd c (by decide)) (fun _ => ?_)
  refine lv_iconst (v := 3) hxR hbR dX0_sortOf_34 (by decide) ?_
  refine lv_goto (tgt := 39) hxR hbR dX0_sortOf_35 (by decide) ?_
  exact hret () 3 _ _ _ _ _ _ dX0_sortOf_39 hI (by first | rfl | trivial | assumption | simp_all) (Nat.le_of_ble_eq_true rfl) (Nat.le_of_ble_eq_true rfl) rfl

theorem c0_sortOf_4 (l : Launch) (E : En) (qw : Nat) (nw : Nat) (Rw : Nat → Int64)   : CtI l E yX0_sortOf cX0_sortOf 1 .int 0 0 0 [.ref qw] (rowW E qw 4 nw Rw) (fun (r : Int32) (u : Unit) => r = 4) (fun (u : Unit) => rowW E qw 4 nw Rw) := by
  refine CtI.of (by decide +kernel) (Nat.le_of_ble_eq_true rfl) ?_
  intro pR eR sR mR aR bR tR cR AR ls QR hxR hbR hmlR hts hown hlk hnm hA hK hI hl hret
  have hl : lv_has ls 1 [(0, .ref qw)] := hl
  refine lv_aload_n hxR hbR dX0_sortOf_0 rfl (lv_at hl 0 rfl) ?_
  refine r_instF hxR hbR hts hown q467 (va_Nc.iA (a := "[Z") (b := "[B") (iA.no hK.xw (by decide +kernel))) (row_isA hK hI (q0 := 0) (by decide) rfl) dX0_sortOf_1 ?_
  refine lv_if_eq (tgt := 9) hxR hbR dX0_sortOf_4 (by decide) (fun _ => ?_) (fun c => absurd c (by decide))
  refine lv_aload_n hxR hbR dX0_sortOf_9 rfl (lv_at hl 0 rfl) ?_
  refine r_instF hxR hbR hts hown q468 (va_Nc.iA (a := "[Z") (b := "[S") (iA.no hK.xw (by decide +kernel))) (row_isA hK hI (q0 := 0) (by decide) rfl) dX0_sortOf_10 ?_
  refine lv_if_eq (tgt := 18) hxR hbR dX0_sortOf_13 (by decide) (fun _ => ?_) (fun c => absurd c (by decide))
  refine lv_aload_n hxR hbR dX0_sortOf_18 rfl (lv_at hl 0 rfl) ?_
  refine r_instF hxR hbR hts hown q469 (va_Nc.iA (a := "[Z") (b := "[I") (iA.no hK.xw (by decide +kernel))) (row_isA hK hI (q0 := 0) (by decide) rfl) dX0_sortOf_19 ?_
  refine lv_if_eq (tgt := 27) hxR hbR dX0_sortOf_22 (by decide) (fun _ => ?_) (fun c => absurd c (by decide))
  refine lv_aload_n hxR hbR dX0_sortOf_27 rfl (lv_at hl 0 rfl) ?_
  refine r_instF hxR hbR hts hown q470 (va_Nc.iA (a := "[Z") (b := "[J") (iA.no hK.xw (by decide +kernel))) (row_isA hK hI (q0 := 0) (by decide) rfl) dX0_sortOf_28 ?_
  refine lv_if_eq (tgt := 38) hxR hbR dX0_sortOf_31 (by decide) (fun _ => ?_) (fun c => absurd c (by decide))
  refine lv_iconst (v := 4) hxR hbR dX0_sortOf_38 (by decide) ?_
  exact hret () 4 _ _ _ _ _ _ dX0_sortOf_39 hI (by first | rfl | trivial | assumption | simp_all) (Nat.le_of_ble_eq_true rfl) (Nat.le_of_ble_eq_true rfl) rfl

theorem c0_sortOf (l : Launch) (E : En) (qw : Nat) (sow : Nat) (nw : Nat) (Rw : Nat → Int64)  (hso : sow ≤ 4) : CtI l E yX0_sortOf cX0_sortOf 1 .int 0 0 0 [.ref qw] (rowW E qw sow nw Rw) (fun (r : Int32) (u : Unit) => r = nI sow) (fun (u : Unit) => rowW E qw sow nw Rw) := by
  rcases sow with _ | _ | _ | _ | _ | so9
  · exact c0_sortOf_0 l E qw nw Rw
  · exact c0_sortOf_1 l E qw nw Rw
  · exact c0_sortOf_2 l E qw nw Rw
  · exact c0_sortOf_3 l E qw nw Rw
  · exact c0_sortOf_4 l E qw nw Rw
  · omega

theorem c0_elementOf_0 (l : Launch) (E : En) (qw : Nat) (nw : Nat) (Rw : Nat → Int64) (i : Int32) (hlt : l.stackTraces = false) (hnw : nw ≤ 40) (hok : ∀ j, j < nw → rOk 0 (Rw j)) : XtL l E yX0_elementOf (ws_ yX0_elementOf cX0_elementOf 2 (some .long)) 105 3 222 [.ref qw, .int i] (rowW E qw 0 nw Rw) (fun (r : Int64) (u : Unit) => r = Rw i.toNatClampNeg ∧ vp_in i nw) (fun (u : Unit) => rowW E qw 0 nw Rw) (fun (En : String) (u : Unit) => En = "java/lang/ArrayIndexOutOfBoundsException" ∧ ¬ vp_in i nw) (fun (u : Unit) (q : Nat) => rowW E qw 0 nw Rw) := by
  refine XtL.of (by decide +kernel) (Nat.le_of_ble_eq_true rfl) ?_
  intro pR eR sR mR aR bR tR cR AR ls QR hxR hbR hmlR hts hown hlk hnm hA hK hI hl hret hthr
  have hl : lv_has ls 2 [(0, .ref qw), (1, .int i)] := hl
  refine lv_aload_n hxR hbR dX0_elementOf_0 rfl (lv_at hl 0 rfl) ?_
  refine kSI (n := 1) (As := [.ref qw]) (rest := []) (fun w => w) hxR hbR hmlR hts hown hK hA hl.1 isCtx.id hI (c0_sortOf_0 l E qw nw Rw  ) (lw_S q464 q465 q81 q466) (by decide +kernel) rfl (Nat.le_of_ble_eq_true rfl) (Nat.le_of_ble_eq_true rfl) ⟨Nat.le_of_ble_eq_true rfl, Nat.le_of_ble_eq_true rfl⟩ (Nat.le_of_ble_eq_true rfl) dX0_elementOf_1 (fun r_1 u H locs hp hI hz => ?_)
  have hI : wI E AR sR H locs (rowW E qw 0 nw Rw) := hI
  have hp : r_1 = 0 := hp
  have hr_1 := hp
  subst hr_1
  refine lv_tableIn (tgt := 36) hxR hbR dX0_elementOf_4 (by decide) (by decide) rfl (by decide) ?_
  refine lv_aload_n hxR hbR dX0_elementOf_36 rfl (lv_at hl 0 rfl) ?_
  refine r_castT hxR hbR hts hown q467 (row_self hK (so := 0) (by decide)) (row_isA hK hI (q0 := 0) (by decide) rfl) dX0_elementOf_37 ?_
  refine lv_iload_n hxR hbR dX0_elementOf_40 rfl (lv_at hl 1 rfl) ?_
  by_cases c_in : vp_in i nw
  · skip
    refine va_bald hxR hbR hK.1 hI.1 0 4 rfl rfl c_in dX0_elementOf_41 ?_
    refine lv_as (y := (Rw i.toNatClampNeg).toInt32) rfl ?_
    have hok9 := hok _ (Nat.lt_of_not_le (fun z => c_in (Or.inr z)))
    refine lv_i2l (v := ((Rw i.toNatClampNeg).toInt32).toInt64) hxR hbR dX0_elementOf_42 rfl ?_
    exact hret () (((Rw i.toNatClampNeg).toInt32).toInt64) _ _ _ _ _ _ dX0_elementOf_43 hI (by show (((Rw i.toNatClampNeg).toInt32).toInt64) = Rw i.toNatClampNeg ∧ vp_in i nw; exact ⟨i32_i64_s hok9 (by decide), c_in⟩) (by omega) (by omega)
  · skip
    refine vx_baldZ hxR hbR hK.1 hI.1 0 4 rfl rfl c_in dX0_elementOf_41 (fun tx etx => ?_)
    obtain ⟨ht1, ht2⟩ := tx_ix (by omega) etx
    refine r_vm_aio hxR hlt hmlR hts hK hI hl.1 hlk ht1 ht2 (by decide) (by omega) (Nat.le_of_ble_eq_true rfl) (by omega) (fun H q9 ce_41 hI hq1 hq2 hq3 => ?_)
    exact hthr () _ _ _ _ _ _ _ _ _ _ hq1 hq2 hq3 hI ⟨rfl, (by first | omega | with_reducible assumption)⟩ (by omega) (by omega)

theorem c0_elementOf_1 (l : Launch) (E : En) (qw : Nat) (nw : Nat) (Rw : Nat → Int64) (i : Int32) (hlt : l.stackTraces = false) (hnw : nw ≤ 40) (hok : ∀ j, j < nw → rOk 1 (Rw j)) : XtL l E yX0_elementOf (ws_ yX0_elementOf cX0_elementOf 2 (some .long)) 105 3 222 [.ref qw, .int i] (rowW E qw 1 nw Rw) (fun (r : Int64) (u : Unit) => r = Rw i.toNatClampNeg ∧ vp_in i nw) (fun (u : Unit) => rowW E qw 1 nw Rw) (fun (En : String) (u : Unit) => En = "java/lang/ArrayIndexOutOfBoundsException" ∧ ¬ vp_in i nw) (fun (u : Unit) (q : Nat) => rowW E qw 1 nw Rw) := by
  refine XtL.of (by decide +kernel) (Nat.le_of_ble_eq_true rfl) ?_
  intro pR eR sR mR aR bR tR cR AR ls QR hxR hbR hmlR hts hown hlk hnm hA hK hI hl hret hthr
  have hl : lv_has ls 2 [(0, .ref qw), (1, .int i)] := hl
  refine lv_aload_n hxR hbR dX0_elementOf_0 rfl (lv_at hl 0 rfl) ?_
  refine kSI (n := 1) (As := [.ref qw]) (rest := []) (fun w => w) hxR hbR hmlR hts hown hK hA hl.1 isCtx.id hI (c0_sortOf_1 l E qw nw Rw  ) (lw_S q464 q465 q81 q466) (by decide +kernel) rfl (Nat.le_of_ble_eq_true rfl) (Nat.le_of_ble_eq_true rfl) ⟨Nat.le_of_ble_eq_true rfl, Nat.le_of_ble_eq_true rfl⟩ (Nat.le_of_ble_eq_true rfl) dX0_elementOf_1 (fun r_1 u H locs hp hI hz => ?_)
  have hI : wI E AR sR H locs (rowW E qw 1 nw Rw) := hI
  have hp : r_1 = 1 := hp
  have hr_1 := hp
  subst hr_1
  refine lv_tableIn (tgt := 44) hxR hbR dX0_elementOf_4 (by decide) (by decide) rfl (by decide) ?_
  refine lv_aload_n hxR hbR dX0_elementOf_44 rfl (lv_at hl 0 rfl) ?_
  refine r_castT hxR hbR hts hown q468 (row_self hK (so := 1) (by decide)) (row_isA hK hI (q0 := 0) (by decide) rfl) dX0_elementOf_45 ?_
  refine lv_iload_n hxR hbR dX0_elementOf_48 rfl (lv_at hl 1 rfl) ?_
  by_cases c_in : vp_in i nw
  · skip
    refine va_sald hxR hbR hK.1 hI.1 0 5 rfl rfl c_in dX0_elementOf_49 ?_
    refine lv_as (y := (Rw i.toNatClampNeg).toInt32) rfl ?_
    have hok9 := hok _ (Nat.lt_of_not_le (fun z => c_in (Or.inr z)))
    refine lv_i2l (v := ((Rw i.toNatClampNeg).toInt32).toInt64) hxR hbR dX0_elementOf_50 rfl ?_
    exact hret () (((Rw i.toNatClampNeg).toInt32).toInt64) _ _ _ _ _ _ dX0_elementOf_51 hI (by show (((Rw i.toNatClampNeg).toInt32).toInt64) = Rw i.toNatClampNeg ∧ vp_in i nw; exact ⟨i32_i64_s hok9 (by decide), c_in⟩) (by omega) (by omega)
  · skip
    refine vx_saldZ hxR hbR hK.1 hI.1 0 5 rfl rfl c_in dX0_elementOf_49 (fun tx etx => ?_)
    obtain ⟨ht1, ht2⟩ := tx_ix (by omega) etx
    refine r_vm_aio hxR hlt hmlR hts hK hI hl.1 hlk ht1 ht2 (by decide) (by omega) (Nat.le_of_ble_eq_true rfl) (by omega) (fun H q9 ce_49 hI hq1 hq2 hq3 => ?_)
    exact hthr () _ _ _ _ _ _ _ _ _ _ hq1 hq2 hq3 hI ⟨rfl, (by first | omega | with_reducible assumption)⟩ (by omega) (by omega)

theorem c0_elementOf_2 (l : Launch) (E : En) (qw : Nat) (nw : Nat) (Rw : Nat → Int64) (i : Int32) (hlt : l.stackTraces = false) (hnw : nw ≤ 40) (hok : ∀ j, j < nw → rOk 2 (Rw j)) : XtL l E yX0_elementOf (ws_ yX0_elementOf cX0_elementOf 2 (some .long)) 105 3 222 [.ref qw, .int i] (rowW E qw 2 nw Rw) (fun (r : Int64) (u : Unit) => r = Rw i.toNatClampNeg ∧ vp_in i nw) (fun (u : Unit) => rowW E qw 2 nw Rw) (fun (En : String) (u : Unit) => En = "java/lang/ArrayIndexOutOfBoundsException" ∧ ¬ vp_in i nw) (fun (u : Unit) (q : Nat) => rowW E qw 2 nw Rw) := by
  refine XtL.of (by decide +kernel) (Nat.le_of_ble_eq_true rfl) ?_
  intro pR eR sR mR aR bR tR cR AR ls QR hxR hbR hmlR hts hown hlk hnm hA hK hI hl hret hthr
  have hl : lv_has ls 2 [(0, .ref qw), (1, .int i)] := hl
  refine lv_aload_n hxR hbR dX0_elementOf_0 rfl (lv_at hl 0 rfl) ?_
  refine kSI (n := 1) (As := [.ref qw]) (rest := []) (fun w => w) hxR hbR hmlR hts hown hK hA hl.1 isCtx.id hI (c0_sortOf_2 l E qw nw Rw  ) (lw_S q464 q465 q81 q466) (by decide +kernel) rfl (Nat.le_of_ble_eq_true rfl) (Nat.le_of_ble_eq_true rfl) ⟨Nat.le_of_ble_eq_true rfl, Nat.le_of_ble_eq_true rfl⟩ (Nat.le_of_ble_eq_true rfl) dX0_elementOf_1 (fun r_1 u H locs hp hI hz => ?_)
  have hI : wI E AR sR H locs (rowW E qw 2 nw Rw) := hI
  have hp : r_1 = 2 := hp
  have hr_1 := hp
  subst hr_1
  refine lv_tableIn (tgt := 52) hxR hbR dX0_elementOf_4 (by decide) (by decide) rfl (by decide) ?_
  refine lv_aload_n hxR hbR dX0_elementOf_52 rfl (lv_at hl 0 rfl) ?_
  refine r_castT hxR hbR hts hown q469 (row_self hK (so := 2) (by decide)) (row_isA hK hI (q0 := 0) (by decide) rfl) dX0_elementOf_53 ?_
  refine lv_iload_n hxR hbR dX0_elementOf_56 rfl (lv_at hl 1 rfl) ?_
  by_cases c_in : vp_in i nw
  · skip
    refine va_iald hxR hbR hK.1 hI.1 0 0 rfl rfl c_in dX0_elementOf_57 ?_
    refine lv_as (y := (Rw i.toNatClampNeg).toInt32) rfl ?_
    have hok9 := hok _ (Nat.lt_of_not_le (fun z => c_in (Or.inr z)))
    refine lv_i2l (v := ((Rw i.toNatClampNeg).toInt32).toInt64) hxR hbR dX0_elementOf_58 rfl ?_
    exact hret () (((Rw i.toNatClampNeg).toInt32).toInt64) _ _ _ _ _ _ dX0_elementOf_59 hI (by show (((Rw i.toNatClampNeg).toInt32).toInt64) = Rw i.toNatClampNeg ∧ vp_in i nw; exact ⟨i32_i64_s hok9 (by decide), c_in⟩) (by omega) (by omega)
  · skip
    refine vx_ialdZ hxR hbR hK.1 hI.1 0 0 rfl rfl c_in dX0_elementOf_57 (fun tx etx => ?_)
    obtain ⟨ht1, ht2⟩ := tx_ix (by omega) etx
    refine r_vm_aio hxR hlt hmlR hts hK hI hl.1 hlk ht1 ht2 (by decide) (by omega) (Nat.le_of_ble_eq_true rfl) (by omega) (fun H q9 ce_57 hI hq1 hq2 hq3 => ?_)
    exact hthr () _ _ _ _ _ _ _ _ _ _ hq1 hq2 hq3 hI ⟨rfl, (by first | omega | with_reducible assumption)⟩ (by omega) (by omega)

theorem c0_elementOf_3 (l : Launch) (E : En) (qw : Nat) (nw : Nat) (Rw : Nat → Int64) (i : Int32) (hlt : l.stackTraces = false) (hnw : nw ≤ 40) (hok : ∀ j, j < nw → rOk 3 (Rw j)) : XtL l E yX0_elementOf (ws_ yX0_elementOf cX0_elementOf 2 (some .long)) 105 3 222 [.ref qw, .int i] (rowW E qw 3 nw Rw) (fun (r : Int64) (u : Unit) => r = Rw i.toNatClampNeg ∧ vp_in i nw) (fun (u : Unit) => rowW E qw 3 nw Rw) (fun (En : String) (u : Unit) => En = "java/lang/ArrayIndexOutOfBoundsException" ∧ ¬ vp_in i nw) (fun (u : Unit) (q : Nat) => rowW E qw 3 nw Rw) := by
  refine XtL.of (by decide +kernel) (Nat.le_of_ble_eq_true rfl) ?_
  intro pR eR sR mR aR bR tR cR AR ls QR hxR hbR hmlR hts hown hlk hnm hA hK hI hl hret hthr
  have hl : lv_has ls 2 [(0, .ref qw), (1, .int i)] := hl
  refine lv_aload_n hxR hbR dX0_elementOf_0 rfl (lv_at hl 0 rfl) ?_
  refine kSI (n := 1) (As := [.ref qw]) (rest := []) (fun w => w) hxR hbR hmlR hts hown hK hA hl.1 isCtx.id hI (c0_sortOf_3 l E qw nw Rw  ) (lw_S q464 q465 q81 q466) (by decide +kernel) rfl (Nat.le_of_ble_eq_true rfl) (Nat.le_of_ble_eq_true rfl) ⟨Nat.le_of_ble_eq_true rfl, Nat.le_of_ble_eq_true rfl⟩ (Nat.le_of_ble_eq_true rfl) dX0_elementOf_1 (fun r_1 u H locs hp hI hz => ?_)
  have hI : wI E AR sR H locs (rowW E qw 3 nw Rw) := hI
  have hp : r_1 = 3 := hp
  have hr_1 := hp
  subst hr_1
  refine lv_tableIn (tgt := 60) hxR hbR dX0_elementOf_4 (by decide) (by decide) rfl (by decide) ?_
  refine lv_aload_n hxR hbR dX0_elementOf_60 rfl (lv_at hl 0 rfl) ?_
  refine r_castT hxR hbR hts hown q470 (row_self hK (so := 3) (by decide)) (row_isA hK hI (q0 := 0) (by decide) rfl) dX0_elementOf_61 ?_
  refine lv_iload_n hxR hbR dX0_elementOf_64 rfl (lv_at hl 1 rfl) ?_
  by_cases c_in : vp_in i nw
  · skip
    refine va_lald hxR hbR hK.1 hI.1 0 1 rfl rfl c_in dX0_elementOf_65 ?_
    refine lv_asl (y := Rw i.toNatClampNeg) rfl ?_
    have hok9 := hok _ (Nat.lt_of_not_le (fun z => c_in (Or.inr z)))
    exact hret () (Rw i.toNatClampNeg) _ _ _ _ _ _ dX0_elementOf_66 hI (by show (Rw i.toNatClampNeg) = Rw i.toNatClampNeg ∧ vp_in i nw; exact ⟨rfl, c_in⟩) (by omega) (by omega)
  · skip
    refine vx_laldZ hxR hbR hK.1 hI.1 0 1 rfl rfl c_in dX0_elementOf_65 (fun tx etx => ?_)
    obtain ⟨ht1, ht2⟩ := tx_ix (by omega) etx
    refine r_vm_aio hxR hlt hmlR hts hK hI hl.1 hlk ht1 ht2 (by decide) (by omega) (Nat.le_of_ble_eq_true rfl) (by omega) (fun H q9 ce_65 hI hq1 hq2 hq3 => ?_)
    exact hthr () _ _ _ _ _ _ _ _ _ _ hq1 hq2 hq3 hI ⟨rfl, (by first | omega | with_reducible assumption)⟩ (by omega) (by omega)

theorem c0_elementOf_4 (l : Launch) (E : En) (qw : Nat) (nw : Nat) (Rw : Nat → Int64) (i : Int32) (hlt : l.stackTraces = false) (hnw : nw ≤ 40) (hok : ∀ j, j < nw → rOk 4 (Rw j)) : XtL l E yX0_elementOf (ws_ yX0_elementOf cX0_elementOf 2 (some .long)) 105 3 222 [.ref qw, .int i] (rowW E qw 4 nw Rw) (fun (r : Int64) (u : Unit) => r = Rw i.toNatClampNeg ∧ vp_in i nw) (fun (u : Unit) => rowW E qw 4 nw Rw) (fun (En : String) (u : Unit) => En = "java/lang/ArrayIndexOutOfBoundsException" ∧ ¬ vp_in i nw) (fun (u : Unit) (q : Nat) => rowW E qw 4 nw Rw) := by
  refine XtL.of (by decide +kernel) (Nat.le_of_ble_eq_true rfl) ?_
  intro pR eR sR mR aR bR tR cR AR ls QR hxR hbR hmlR hts hown hlk hnm hA hK hI hl hret hthr
  have hl : lv_has ls 2 [(0, .ref qw), (1, .int i)] := hl
  refine lv_aload_n hxR hbR dX0_elementOf_0 rfl (lv_at hl 0 rfl) ?_
  refine kSI (n := 1) (As := [.ref qw]) (rest := []) (fun w => w) hxR hbR hmlR hts hown hK hA hl.1 isCtx.id hI (c0_sortOf_4 l E qw nw Rw  ) (lw_S q464 q465 q81 q466) (by decide +kernel) rfl (Nat.le_of_ble_eq_true rfl) (Nat.le_of_ble_eq_true rfl) ⟨Nat.le_of_ble_eq_true rfl, Nat.le_of_ble_eq_true rfl⟩ (Nat.le_of_ble_eq_true rfl) dX0_elementOf_1 (fun r_1 u H locs hp hI hz => ?_)
  have hI : wI E AR sR H locs (rowW E qw 4 nw Rw) := hI
  have hp : r_1 = 4 := hp
  have hr_1 := hp
  subst hr_1
  refine lv_tableOut (tgt := 67) hxR hbR dX0_elementOf_4 (by decide) (by decide) ?_
  refine lv_aload_n hxR hbR dX0_elementOf_67 rfl (lv_at hl 0 rfl) ?_
  refine r_castT hxR hbR hts hown q471 (row_self hK (so := 4) (by decide)) (row_isA hK hI (q0 := 0) (by decide) rfl) dX0_elementOf_68 ?_
  refine lv_iload_n hxR hbR dX0_elementOf_71 rfl (lv_at hl 1 rfl) ?_
  by_cases c_in : vp_in i nw
  · skip
    refine va_zald hxR hbR hK.1 hI.1 0 6 rfl rfl c_in dX0_elementOf_72 ?_
    refine lv_as (y := (Rw i.toNatClampNeg).toInt32) rfl ?_
    have hok9 := hok _ (Nat.lt_of_not_le (fun z => c_in (Or.inr z)))
    refine lv_if_eq (tgt := 80) hxR hbR dX0_elementOf_73 (by decide) (fun c_73 => ?_) (fun c_73 => ?_)
    · skip
      have i_73 : ((Rw i.toNatClampNeg).toInt32).toInt = 0 := by have zz := i_eq.mp c_73; exact zz
      refine lv_lconst (v := 0) hxR hbR dX0_elementOf_80 (by decide) ?_
      exact hret () (0 : Int64) _ _ _ _ _ _ dX0_elementOf_81 hI (by show (0 : Int64) = Rw i.toNatClampNeg ∧ vp_in i nw; exact ⟨(el_z hok9 c_73).symm, c_in⟩) (by omega) (by omega)
    · skip
      have i_73 : ¬ (((Rw i.toNatClampNeg).toInt32).toInt = 0) := by have zz := mt i_eq.mpr c_73; exact zz
      refine lv_lconst (v := 1) hxR hbR dX0_elementOf_76 (by decide) ?_
      refine lv_goto (tgt := 81) hxR hbR dX0_elementOf_77 (by decide) ?_
      exact hret () (1 : Int64) _ _ _ _ _ _ dX0_elementOf_81 hI (by show (1 : Int64) = Rw i.toNatClampNeg ∧ vp_in i nw; exact ⟨(el_o hok9 c_73).symm, c_in⟩) (by omega) (by omega)
  · skip
    refine vx_zaldZ hxR hbR hK.1 hI.1 0 6 rfl rfl c_in dX0_elementOf_72 (fun tx etx => ?_)
    obtain ⟨ht1, ht2⟩ := tx_ix (by omega) etx
    refine r_vm_aio hxR hlt hmlR hts hK hI hl.1 hlk ht1 ht2 (by decide) (by omega) (Nat.le_of_ble_eq_true rfl) (by omega) (fun H q9 ce_72 hI hq1 hq2 hq3 => ?_)
    exact hthr () _ _ _ _ _ _ _ _ _ _ hq1 hq2 hq3 hI ⟨rfl, (by first | omega | with_reducible assumption)⟩ (by omega) (by omega)

theorem c0_elementOf (l : Launch) (E : En) (qw : Nat) (sow : Nat) (nw : Nat) (Rw : Nat → Int64) (i : Int32) (hlt : l.stackTraces = false) (hso : sow ≤ 4) (hnw : nw ≤ 40) (hok : ∀ j, j < nw → rOk sow (Rw j)) : XtL l E yX0_elementOf (ws_ yX0_elementOf cX0_elementOf 2 (some .long)) 105 3 222 [.ref qw, .int i] (rowW E qw sow nw Rw) (fun (r : Int64) (u : Unit) => r = Rw i.toNatClampNeg ∧ vp_in i nw) (fun (u : Unit) => rowW E qw sow nw Rw) (fun (En : String) (u : Unit) => En = "java/lang/ArrayIndexOutOfBoundsException" ∧ ¬ vp_in i nw) (fun (u : Unit) (q : Nat) => rowW E qw sow nw Rw) := by
  rcases sow with _ | _ | _ | _ | _ | so9
  · exact c0_elementOf_0 l E qw nw Rw i hlt hnw hok
  · exact c0_elementOf_1 l E qw nw Rw i hlt hnw hok
  · exact c0_elementOf_2 l E qw nw Rw i hlt hnw hok
  · exact c0_elementOf_3 l E qw nw Rw i hlt hnw hok
  · exact c0_elementOf_4 l E qw nw Rw i hlt hnw hok
  · omega

theorem c0_puts_0 (l : Launch) (E : En) (qw : Nat) (nw : Nat) (Rw : Nat → Int64) (i : Int32) (v : Int64) (hlt : l.stackTraces = false) (hnw : nw ≤ 40) : XtV l E yX0_puts (ws_ yX0_puts cX0_puts 4 none) 105 3 222 [.ref qw, .int i, .long v] (rowW E qw 0 nw Rw) (fun (u : Unit) => vp_in i nw) (fun (u : Unit) => rowW E qw 0 nw (va_up Rw i.toNatClampNeg (fitV (nI 0) v))) (fun (En : String) (u : Unit) => En = "java/lang/ArrayIndexOutOfBoundsException" ∧ ¬ vp_in i nw) (fun (u : Unit) (q : Nat) => rowW E qw 0 nw Rw) := by
  refine XtV.of (by decide +kernel) (Nat.le_of_ble_eq_true rfl) ?_
  intro pR eR sR mR aR bR tR cR AR ls QR hxR hbR hmlR hts hown hlk hnm hA hK hI hl hret hthr
  have hl : lv_has ls 4 [(0, .ref qw), (1, .int i), (2, .long v)] := hl
  refine lv_aload_n hxR hbR dX0_puts_0 rfl (lv_at hl 0 rfl) ?_
  refine kSI (n := 1) (As := [.ref qw]) (rest := []) (fun w => w) hxR hbR hmlR hts hown hK hA hl.1 isCtx.id hI (c0_sortOf_0 l E qw nw Rw  ) (lw_S q464 q465 q81 q466) (by decide +kernel) rfl (Nat.le_of_ble_eq_true rfl) (Nat.le_of_ble_eq_true rfl) ⟨Nat.le_of_ble_eq_true rfl, Nat.le_of_ble_eq_true rfl⟩ (Nat.le_of_ble_eq_true rfl) dX0_puts_1 (fun r_1 u H locs hp hI hz => ?_)
  have hI : wI E AR sR H locs (rowW E qw 0 nw Rw) := hI
  have hp : r_1 = 0 := hp
  have hr_1 := hp
  subst hr_1
  refine lv_tableIn (tgt := 36) hxR hbR dX0_puts_4 (by decide) (by decide) rfl (by decide) ?_
  refine lv_aload_n hxR hbR dX0_puts_36 rfl (lv_at hl 0 rfl) ?_
  refine r_castT hxR hbR hts hown q467 (row_self hK (so := 0) (by decide)) (row_isA hK hI (q0 := 0) (by decide) rfl) dX0_puts_37 ?_
  refine lv_iload_n hxR hbR dX0_puts_40 rfl (lv_at hl 1 rfl) ?_
  refine lv_lload_n hxR hbR dX0_puts_41 rfl (lv_at hl 2 rfl) ?_
  refine lv_l2i (v := v.toInt32) hxR hbR dX0_puts_42 rfl ?_
  refine lv_i2b (v := v.toInt32.toInt8.toInt32) hxR hbR dX0_puts_43 rfl ?_
  by_cases c_in : vp_in i nw
  · skip
    refine va_bast hxR hbR hK.1 hI.1 hI.2.1 hI.2.2 0 4 rfl rfl c_in dX0_puts_44 (fun H locs h1 h2 h3 => ?_)
    have hI := wI_w (ws' := rowW E qw 0 nw (va_up Rw (i.toNatClampNeg) (fitV (nI 0) v))) (congrArg (fun z => ([(qw, .inl (E.2 4, nw, .inl z))] : va_W)) (put_0 Rw (i.toNatClampNeg) v).symm) ⟨h1, h2, h3⟩
    refine lv_goto (tgt := 98) hxR hbR dX0_puts_45 (by decide) ?_
    exact hret () _ _ _ _ _ _ dX0_puts_98 hI (by show vp_in i nw; exact c_in) (by omega) (by omega)
  · skip
    refine vx_bastZ hxR hbR hK.1 hI.1 0 4 rfl rfl c_in dX0_puts_44 (fun tx etx => ?_)
    obtain ⟨ht1, ht2⟩ := tx_ix (by omega) etx
    refine r_vm_aio hxR hlt hmlR hts hK hI hl.1 hlk ht1 ht2 (by decide) (by omega) (Nat.le_of_ble_eq_true rfl) (by omega) (fun H q9 ce_44 hI hq1 hq2 hq3 => ?_)
    exact hthr () _ _ _ _ _ _ _ _ _ _ hq1 hq2 hq3 hI ⟨rfl, (by first | omega | with_reducible assumption)⟩ (by omega) (by omega)

theorem c0_puts_1 (l : Launch) (E : En) (qw : Nat) (nw : Nat) (Rw : Nat → Int64) (i : Int32) (v : Int64) (hlt : l.stackTraces = false) (hnw : nw ≤ 40) : XtV l E yX0_puts (ws_ yX0_puts cX0_puts 4 none) 105 3 222 [.ref qw, .int i, .long v] (rowW E qw 1 nw Rw) (fun (u : Unit) => vp_in i nw) (fun (u : Unit) => rowW E qw 1 nw (va_up Rw i.toNatClampNeg (fitV (nI 1) v))) (fun (En : String) (u : Unit) => En = "java/lang/ArrayIndexOutOfBoundsException" ∧ ¬ vp_in i nw) (fun (u : Unit) (q : Nat) => rowW E qw 1 nw Rw) := by
  refine XtV.of (by decide +kernel) (Nat.le_of_ble_eq_true rfl) ?_
  intro pR eR sR mR aR bR tR cR AR ls QR hxR hbR hmlR hts hown hlk hnm hA hK hI hl hret hthr
  have hl : lv_has ls 4 [(0, .ref qw), (1, .int i), (2, .long v)] := hl
  refine lv_aload_n hxR hbR dX0_puts_0 rfl (lv_at hl 0 rfl) ?_
  refine kSI (n := 1) (As := [.ref qw]) (rest := []) (fun w => w) hxR hbR hmlR hts hown hK hA hl.1 isCtx.id hI (c0_sortOf_1 l E qw nw Rw  ) (lw_S q464 q465 q81 q466) (by decide +kernel) rfl (Nat.le_of_ble_eq_true rfl) (Nat.le_of_ble_eq_true rfl) ⟨Nat.le_of_ble_eq_true rfl, Nat.le_of_ble_eq_true rfl⟩ (Nat.le_of_ble_eq_true rfl) dX0_puts_1 (fun r_1 u H locs hp hI hz => ?_)
  have hI : wI E AR sR H locs (rowW E qw 1 nw Rw) := hI
  have hp : r_1 = 1 := hp
  have hr_1 := hp
  subst hr_1
  refine lv_tableIn (tgt := 48) hxR hbR dX0_puts_4 (by decide) (by decide) rfl (by decide) ?_
  refine lv_aload_n hxR hbR dX0_puts_48 rfl (lv_at hl 0 rfl) ?_
  refine r_castT hxR hbR hts hown q468 (row_self hK (so := 1) (by decide)) (row_isA hK hI (q0 := 0) (by decide) rfl) dX0_puts_49 ?_
  refine lv_iload_n hxR hbR dX0_puts_52 rfl (lv_at hl 1 rfl) ?_
  refine lv_lload_n hxR hbR dX0_puts_53 rfl (lv_at hl 2 rfl) ?_
  refine lv_l2i (v := v.toInt32) hxR hbR dX0_puts_54 rfl ?_
  refine lv_i2s (v := v.toInt32.toInt16.toInt32) hxR hbR dX0_puts_55 rfl ?_
  by_cases c_in : vp_in i nw
  · skip
    refine va_sast hxR hbR hK.1 hI.1 hI.2.1 hI.2.2 0 5 rfl rfl c_in dX0_puts_56 (fun H locs h1 h2 h3 => ?_)
    have hI := wI_w (ws' := rowW E qw 1 nw (va_up Rw (i.toNatClampNeg) (fitV (nI 1) v))) (congrArg (fun z => ([(qw, .inl (E.2 5, nw, .inl z))] : va_W)) (put_1 Rw (i.toNatClampNeg) v).symm) ⟨h1, h2, h3⟩
    refine lv_goto (tgt := 98) hxR hbR dX0_puts_57 (by decide) ?_
    exact hret () _ _ _ _ _ _ dX0_puts_98 hI (by show vp_in i nw; exact c_in) (by omega) (by omega)
  · skip
    refine vx_sastZ hxR hbR hK.1 hI.1 0 5 rfl rfl c_in dX0_puts_56 (fun tx etx => ?_)
    obtain ⟨ht1, ht2⟩ := tx_ix (by omega) etx
    refine r_vm_aio hxR hlt hmlR hts hK hI hl.1 hlk ht1 ht2 (by decide) (by omega) (Nat.le_of_ble_eq_true rfl) (by omega) (fun H q9 ce_56 hI hq1 hq2 hq3 => ?_)
    exact hthr () _ _ _ _ _ _ _ _ _ _ hq1 hq2 hq3 hI ⟨rfl, (by first | omega | with_reducible assumption)⟩ (by omega) (by omega)

theorem c0_puts_2 (l : Launch) (E : En) (qw : Nat) (nw : Nat) (Rw : Nat → Int64) (i : Int32) (v : Int64) (hlt : l.stackTraces = false) (hnw : nw ≤ 40) : XtV l E yX0_puts (ws_ yX0_puts cX0_puts 4 none) 105 3 222 [.ref qw, .int i, .long v] (rowW E qw 2 nw Rw) (fun (u : Unit) => vp_in i nw) (fun (u : Unit) => rowW E qw 2 nw (va_up Rw i.toNatClampNeg (fitV (nI 2) v))) (fun (En : String) (u : Unit) => En = "java/lang/ArrayIndexOutOfBoundsException" ∧ ¬ vp_in i nw) (fun (u : Unit) (q : Nat) => rowW E qw 2 nw Rw) := by
  refine XtV.of (by decide +kernel) (Nat.le_of_ble_eq_true rfl) ?_
  intro pR eR sR mR aR bR tR cR AR ls QR hxR hbR hmlR hts hown hlk hnm hA hK hI hl hret hthr
  have hl : lv_has ls 4 [(0, .ref qw), (1, .int i), (2, .long v)] := hl
  refine lv_aload_n hxR hbR dX0_puts_0 rfl (lv_at hl 0 rfl) ?_
  refine kSI (n := 1) (As := [.ref qw]) (rest := []) (fun w => w) hxR hbR hmlR hts hown hK hA hl.1 isCtx.id hI (c0_sortOf_2 l E qw nw Rw  ) (lw_S q464 q465 q81 q466) (by decide +kernel) rfl (Nat.le_of_ble_eq_true rfl) (Nat.le_of_ble_eq_true rfl) ⟨Nat.le_of_ble_eq_true rfl, Nat.le_of_ble_eq_true rfl⟩ (Nat.le_of_ble_eq_true rfl) dX0_puts_1 (fun r_1 u H locs hp hI hz => ?_)
  have hI : wI E AR sR H locs (rowW E qw 2 nw Rw) := hI
  have hp : r_1 = 2 := hp
  have hr_1 := hp
  subst hr_1
  refine lv_tableIn (tgt := 60) hxR hbR dX0_puts_4 (by decide) (by decide) rfl (by decide) ?_
  refine lv_aload_n hxR hbR dX0_puts_60 rfl (lv_at hl 0 rfl) ?_
  refine r_castT hxR hbR hts hown q469 (row_self hK (so := 2) (by decide)) (row_isA hK hI (q0 := 0) (by decide) rfl) dX0_puts_61 ?_
  refine lv_iload_n hxR hbR dX0_puts_64 rfl (lv_at hl 1 rfl) ?_
  refine lv_lload_n hxR hbR dX0_puts_65 rfl (lv_at hl 2 rfl) ?_
  refine lv_l2i (v := v.toInt32) hxR hbR dX0_puts_66 rfl ?_
  by_cases c_in : vp_in i nw
  · skip
    refine va_iast hxR hbR hK.1 hI.1 hI.2.1 hI.2.2 0 0 rfl rfl c_in dX0_puts_67 (fun H locs h1 h2 h3 => ?_)
    have hI := wI_w (ws' := rowW E qw 2 nw (va_up Rw (i.toNatClampNeg) (fitV (nI 2) v))) (congrArg (fun z => ([(qw, .inl (E.2 0, nw, .inl z))] : va_W)) (put_2 Rw (i.toNatClampNeg) v).symm) ⟨h1, h2, h3⟩
    refine lv_goto (tgt := 98) hxR hbR dX0_puts_68 (by decide) ?_
    exact hret () _ _ _ _ _ _ dX0_puts_98 hI (by show vp_in i nw; exact c_in) (by omega) (by omega)
  · skip
    refine vx_iastZ hxR hbR hK.1 hI.1 0 0 rfl rfl c_in dX0_puts_67 (fun tx etx => ?_)
    obtain ⟨ht1, ht2⟩ := tx_ix (by omega) etx
    refine r_vm_aio hxR hlt hmlR hts hK hI hl.1 hlk ht1 ht2 (by decide) (by omega) (Nat.le_of_ble_eq_true rfl) (by omega) (fun H q9 ce_67 hI hq1 hq2 hq3 => ?_)
    exact hthr () _ _ _ _ _ _ _ _ _ _ hq1 hq2 hq3 hI ⟨rfl, (by first | omega | with_reducible assumption)⟩ (by omega) (by omega)

theorem c0_puts_3 (l : Launch) (E : En) (qw : Nat) (nw : Nat) (Rw : Nat → Int64) (i : Int32) (v : Int64) (hlt : l.stackTraces = false) (hnw : nw ≤ 40) : XtV l E yX0_puts (ws_ yX0_puts cX0_puts 4 none) 105 3 222 [.ref qw, .int i, .long v] (rowW E qw 3 nw Rw) (fun (u : Unit) => vp_in i nw) (fun (u : Unit) => rowW E qw 3 nw (va_up Rw i.toNatClampNeg (fitV (nI 3) v))) (fun (En : String) (u : Unit) => En = "java/lang/ArrayIndexOutOfBoundsException" ∧ ¬ vp_in i nw) (fun (u : Unit) (q : Nat) => rowW E qw 3 nw Rw) := by
  refine XtV.of (by decide +kernel) (Nat.le_of_ble_eq_true rfl) ?_
  intro pR eR sR mR aR bR tR cR AR ls QR hxR hbR hmlR hts hown hlk hnm hA hK hI hl hret hthr
  have hl : lv_has ls 4 [(0, .ref qw), (1, .int i), (2, .long v)] := hl
  refine lv_aload_n hxR hbR dX0_puts_0 rfl (lv_at hl 0 rfl) ?_
  refine kSI (n := 1) (As := [.ref qw]) (rest := []) (fun w => w) hxR hbR hmlR hts hown hK hA hl.1 isCtx.id hI (c0_sortOf_3 l E qw nw Rw  ) (lw_S q464 q465 q81 q466) (by decide +kernel) rfl (Nat.le_of_ble_eq_true rfl) (Nat.le_of_ble_eq_true rfl) ⟨Nat.le_of_ble_eq_true rfl, Nat.le_of_ble_eq_true rfl⟩ (Nat.le_of_ble_eq_true rfl) dX0_puts_1 (fun r_1 u H locs hp hI hz => ?_)
  have hI : wI E AR sR H locs (rowW E qw 3 nw Rw) := hI
  have hp : r_1 = 3 := hp
  have hr_1 := hp
  subst hr_1
  refine lv_tableIn (tgt := 71) hxR hbR dX0_puts_4 (by decide) (by decide) rfl (by decide) ?_
  refine lv_aload_n hxR hbR dX0_puts_71 rfl (lv_at hl 0 rfl) ?_
  refine r_castT hxR hbR hts hown q470 (row_self hK (so := 3) (by decide)) (row_isA hK hI (q0 := 0) (by decide) rfl) dX0_puts_72 ?_
  refine lv_iload_n hxR hbR dX0_puts_75 rfl (lv_at hl 1 rfl) ?_
  refine lv_lload_n hxR hbR dX0_puts_76 rfl (lv_at hl 2 rfl) ?_
  by_cases c_in : vp_in i nw
  · skip
    refine va_last hxR hbR hK.1 hI.1 hI.2.1 hI.2.2 0 1 rfl rfl c_in dX0_puts_77 (fun H locs h1 h2 h3 => ?_)
    have hI := wI_w (ws' := rowW E qw 3 nw (va_up Rw (i.toNatClampNeg) (fitV (nI 3) v))) (congrArg (fun z => ([(qw, .inl (E.2 1, nw, .inr (.inl z)))] : va_W)) (put_3 Rw (i.toNatClampNeg) v).symm) ⟨h1, h2, h3⟩
    refine lv_goto (tgt := 98) hxR hbR dX0_puts_78 (by decide) ?_
    exact hret () _ _ _ _ _ _ dX0_puts_98 hI (by show vp_in i nw; exact c_in) (by omega) (by omega)
  · skip
    refine vx_lastZ hxR hbR hK.1 hI.1 0 1 rfl rfl c_in dX0_puts_77 (fun tx etx => ?_)
    obtain ⟨ht1, ht2⟩ := tx_ix (by omega) etx
    refine r_vm_aio hxR hlt hmlR hts hK hI hl.1 hlk ht1 ht2 (by decide) (by omega) (Nat.le_of_ble_eq_true rfl) (by omega) (fun H q9 ce_77 hI hq1 hq2 hq3 => ?_)
    exact hthr () _ _ _ _ _ _ _ _ _ _ hq1 hq2 hq3 hI ⟨rfl, (by first | omega | with_reducible assumption)⟩ (by omega) (by omega)

theorem c0_puts_4 (l : Launch) (E : En) (qw : Nat) (nw : Nat) (Rw : Nat → Int64) (i : Int32) (v : Int64) (hlt : l.stackTraces = false) (hnw : nw ≤ 40) : XtV l E yX0_puts (ws_ yX0_puts cX0_puts 4 none) 105 3 222 [.ref qw, .int i, .long v] (rowW E qw 4 nw Rw) (fun (u : Unit) => vp_in i nw) (fun (u : Unit) => rowW E qw 4 nw (va_up Rw i.toNatClampNeg (fitV (nI 4) v))) (fun (En : String) (u : Unit) => En = "java/lang/ArrayIndexOutOfBoundsException" ∧ ¬ vp_in i nw) (fun (u : Unit) (q : Nat) => rowW E qw 4 nw Rw) := by
  refine XtV.of (by decide +kernel) (Nat.le_of_ble_eq_true rfl) ?_
  intro pR eR sR mR aR bR tR cR AR ls QR hxR hbR hmlR hts hown hlk hnm hA hK hI hl hret hthr
  have hl : lv_has ls 4 [(0, .ref qw), (1, .int i), (2, .long v)] := hl
  refine lv_aload_n hxR hbR dX0_puts_0 rfl (lv_at hl 0 rfl) ?_
  refine kSI (n := 1) (As := [.ref qw]) (rest := []) (fun w => w) hxR hbR hmlR hts hown hK hA hl.1 isCtx.id hI (c0_sortOf_4 l E qw nw Rw  ) (lw_S q464 q465 q81 q466) (by decide +kernel) rfl (Nat.le_of_ble_eq_true rfl) (Nat.le_of_ble_eq_true rfl) ⟨Nat.le_of_ble_eq_true rfl, Nat.le_of_ble_eq_true rfl⟩ (Nat.le_of_ble_eq_true rfl) dX0_puts_1 (fun r_1 u H locs hp hI hz => ?_)
  have hI : wI E AR sR H locs (rowW E qw 4 nw Rw) := hI
  have hp : r_1 = 4 := hp
  have hr_1 := hp
  subst hr_1
  refine lv_tableOut (tgt := 81) hxR hbR dX0_puts_4 (by decide) (by decide) ?_
  refine lv_aload_n hxR hbR dX0_puts_81 rfl (lv_at hl 0 rfl) ?_
  refine r_castT hxR hbR hts hown q471 (row_self hK (so := 4) (by decide)) (row_isA hK hI (q0 := 0) (by decide) rfl) dX0_puts_82 ?_
  refine lv_iload_n hxR hbR dX0_puts_85 rfl (lv_at hl 1 rfl) ?_
  refine lv_lload_n hxR hbR dX0_puts_86 rfl (lv_at hl 2 rfl) ?_
  refine lv_lconst (v := 0) hxR hbR dX0_puts_87 (by decide) ?_
  refine W.lcmp hxR hbR dX0_puts_88 ?_
  refine lv_if_eq (tgt := 96) hxR hbR dX0_puts_89 (by decide) (fun c_89 => ?_) (fun c_89 => ?_)
  · skip
    have i_89 : (lg_cmp v (0 : Int64)).toInt = 0 := by have zz := i_eq.mp c_89; exact zz
    refine lv_iconst (v := 0) hxR hbR dX0_puts_96 (by decide) ?_
    by_cases c_in : vp_in i nw
    · skip
      refine va_zast hxR hbR hK.1 hI.1 hI.2.1 hI.2.2 0 6 rfl rfl c_in dX0_puts_97 (fun H locs h1 h2 h3 => ?_)
      have hI := wI_w (ws' := rowW E qw 4 nw (va_up Rw (i.toNatClampNeg) (fitV (nI 4) v))) (congrArg (fun z => ([(qw, .inl (E.2 6, nw, .inl z))] : va_W)) (put_4 Rw (i.toNatClampNeg) v (if_pos (lg_cmp_z.mp c_89)).symm).symm) ⟨h1, h2, h3⟩
      exact hret () _ _ _ _ _ _ dX0_puts_98 hI (by show vp_in i nw; exact c_in) (by omega) (by omega)
    · skip
      refine vx_zastZ hxR hbR hK.1 hI.1 0 6 rfl rfl c_in dX0_puts_97 (fun tx etx => ?_)
      obtain ⟨ht1, ht2⟩ := tx_ix (by omega) etx
      refine r_vm_aio hxR hlt hmlR hts hK hI hl.1 hlk ht1 ht2 (by decide) (by omega) (Nat.le_of_ble_eq_true rfl) (by omega) (fun H q9 ce_97 hI hq1 hq2 hq3 => ?_)
      exact hthr () _ _ _ _ _ _ _ _ _ _ hq1 hq2 hq3 hI ⟨rfl, (by first | omega | with_reducible assumption)⟩ (by omega) (by omega)
  · skip
    have i_89 : ¬ ((lg_cmp v (0 : Int64)).toInt = 0) := by have zz := mt i_eq.mpr c_89; exact zz
    refine lv_iconst (v := 1) hxR hbR dX0_puts_92 (by decide) ?_
    refine lv_goto (tgt := 97) hxR hbR dX0_puts_93 (by decide) ?_
    by_cases c_in : vp_in i nw
    · skip
      refine va_zast hxR hbR hK.1 hI.1 hI.2.1 hI.2.2 0 6 rfl rfl c_in dX0_puts_97 (fun H locs h1 h2 h3 => ?_)
      have hI := wI_w (ws' := rowW E qw 4 nw (va_up Rw (i.toNatClampNeg) (fitV (nI 4) v))) (congrArg (fun z => ([(qw, .inl (E.2 6, nw, .inl z))] : va_W)) (put_4 Rw (i.toNatClampNeg) v (if_neg (fun z => c_89 (lg_cmp_z.mpr z))).symm).symm) ⟨h1, h2, h3⟩
      exact hret () _ _ _ _ _ _ dX0_puts_98 hI (by show vp_in i nw; exact c_in) (by omega) (by omega)
    · skip
      refine vx_zastZ hxR hbR hK.1 hI.1 0 6 rfl rfl c_in dX0_puts_97 (fun tx etx => ?_)
      obtain ⟨ht1, ht2⟩ := tx_ix (by omega) etx
      refine r_vm_aio hxR hlt hmlR hts hK hI hl.1 hlk ht1 ht2 (by decide) (by omega) (Nat.le_of_ble_eq_true rfl) (by omega) (fun H q9 ce_97 hI hq1 hq2 hq3 => ?_)
      exact hthr () _ _ _ _ _ _ _ _ _ _ hq1 hq2 hq3 hI ⟨rfl, (by first | omega | with_reducible assumption)⟩ (by omega) (by omega)

theorem c0_puts (l : Launch) (E : En) (qw : Nat) (sow : Nat) (nw : Nat) (Rw : Nat → Int64) (i : Int32) (v : Int64) (hlt : l.stackTraces = false) (hso : sow ≤ 4) (hnw : nw ≤ 40) : XtV l E yX0_puts (ws_ yX0_puts cX0_puts 4 none) 105 3 222 [.ref qw, .int i, .long v] (rowW E qw sow nw Rw) (fun (u : Unit) => vp_in i nw) (fun (u : Unit) => rowW E qw sow nw (va_up Rw i.toNatClampNeg (fitV (nI sow) v))) (fun (En : String) (u : Unit) => En = "java/lang/ArrayIndexOutOfBoundsException" ∧ ¬ vp_in i nw) (fun (u : Unit) (q : Nat) => rowW E qw sow nw Rw) := by
  rcases sow with _ | _ | _ | _ | _ | so9
  · exact c0_puts_0 l E qw nw Rw i v hlt hnw
  · exact c0_puts_1 l E qw nw Rw i v hlt hnw
  · exact c0_puts_2 l E qw nw Rw i v hlt hnw
  · exact c0_puts_3 l E qw nw Rw i v hlt hnw
  · exact c0_puts_4 l E qw nw Rw i v hlt hnw
  · omega

theorem c0_rowOf_0 (l : Launch) (E : En)  (z : Int32) (hlt : l.stackTraces = false) (hz : z.toInt ≤ 40) : XtR l E yX0_rowOf (ws_ yX0_rowOf cX0_rowOf 2 (some (FieldType.object "java/lang/Object"))) 105 3 54 [.int 0, .int z] (([] : va_W)) (fun (r : Nat) (u : Unit) => 0 ≤ z.toInt) (fun (u : Unit) (q : Nat) => rowW E q 0 z.toNatClampNeg (fun _ => 0)) (fun (En : String) (u : Unit) => En = "java/lang/NegativeArraySizeException" ∧ z < 0) (fun (u : Unit) (q : Nat) => ([] : va_W)) := by
  refine XtR.of (by decide +kernel) (Nat.le_of_ble_eq_true rfl) (by first | exact Or.inl ⟨_, rfl⟩ | exact Or.inr ⟨_, rfl⟩) ?_
  intro pR eR sR mR aR bR tR cR AR ls QR hxR hbR hmlR hts hown hlk hnm hA hK hI hl hret hthr
  have hl : lv_has ls 2 [(0, .int 0), (1, .int z)] := hl
  refine lv_iload_n hxR hbR dX0_rowOf_0 rfl (lv_at hl 0 rfl) ?_
  refine lv_tableIn (tgt := 32) hxR hbR dX0_rowOf_1 (by decide) (by decide) rfl (by decide) ?_
  refine lv_iload_n hxR hbR dX0_rowOf_32 rfl (lv_at hl 1 rfl) ?_
  by_cases c_in : z < 0
  · skip
    refine vx_newarrayZ hxR hbR c_in dX0_rowOf_33 (fun tx etx => ?_)
    obtain ⟨ht1, ht2⟩ := tx_ng c_in etx
    refine r_vm_neg hxR hlt hmlR hts hK hI hl.1 hlk ht1 ht2 (by decide) (by omega) (Nat.le_of_ble_eq_true rfl) (by omega) (fun H q9 ce_33 hI hq1 hq2 hq3 => ?_)
    exact hthr () _ _ _ _ _ _ _ _ _ _ hq1 hq2 hq3 hI ⟨rfl, (by first | omega | with_reducible assumption)⟩ (by omega) (by omega)
  · skip
    have i_in : ¬ z.toInt < (0 : Int32).toInt := fun z => c_in (Int32.lt_iff_toInt_lt.mpr z)
    rw [show (0 : Int32).toInt = 0 from rfl] at i_in
    obtain ⟨N, hN, rfl⟩ : ∃ N, N ≤ 40 ∧ z = nI N := nat_le_of (by omega) (by omega)
    refine r_newa (n := N) (a0 := (N, .inl (fun _ => 0))) hxR hbR hts hA hK hI (atype := .byte) rfl q385 4 rfl (fun h => h) (fun _ => rfl) (by omega) (by show N * 1 ≤ 536870912; omega) (Nat.le_of_ble_eq_true rfl) (by show 0 + N ≤ 54; omega) dX0_rowOf_33 (fun q_33 H hI => ?_)
    have hI := wI_w (ws' := rowW E q_33 0 N (fun _ => 0)) (row0_0 E q_33 N) hI
    have hI := wI_w (ws' := rowW E q_33 0 (nI N).toNatClampNeg (fun _ => 0)) (by rw [nI_clamp (by omega)]) hI
    exact hret () q_33 _ _ _ _ _ _ dX0_rowOf_35 hI (by rw [nI_toInt (by omega)]; omega) (by omega) (by omega)

theorem c0_rowOf_1 (l : Launch) (E : En)  (z : Int32) (hlt : l.stackTraces = false) (hz : z.toInt ≤ 40) : XtR l E yX0_rowOf (ws_ yX0_rowOf cX0_rowOf 2 (some (FieldType.object "java/lang/Object"))) 105 3 54 [.int 1, .int z] (([] : va_W)) (fun (r : Nat) (u : Unit) => 0 ≤ z.toInt) (fun (u : Unit) (q : Nat) => rowW E q 1 z.toNatClampNeg (fun _ => 0)) (fun (En : String) (u : Unit) => En = "java/lang/NegativeArraySizeException" ∧ z < 0) (fun (u : Unit) (q : Nat) => ([] : va_W)) := by
  refine XtR.of (by decide +kernel) (Nat.le_of_ble_eq_true rfl) (by first | exact Or.inl ⟨_, rfl⟩ | exact Or.inr ⟨_, rfl⟩) ?_
  intro pR eR sR mR aR bR tR cR AR ls QR hxR hbR hmlR hts hown hlk hnm hA hK hI hl hret hthr
  have hl : lv_has ls 2 [(0, .int 1), (1, .int z)] := hl
  refine lv_iload_n hxR hbR dX0_rowOf_0 rfl (lv_at hl 0 rfl) ?_
  refine lv_tableIn (tgt := 36) hxR hbR dX0_rowOf_1 (by decide) (by decide) rfl (by decide) ?_
  refine lv_iload_n hxR hbR dX0_rowOf_36 rfl (lv_at hl 1 rfl) ?_
  by_cases c_in : z < 0
  · skip
    refine vx_newarrayZ hxR hbR c_in dX0_rowOf_37 (fun tx etx => ?_)
    obtain ⟨ht1, ht2⟩ := tx_ng c_in etx
    refine r_vm_neg hxR hlt hmlR hts hK hI hl.1 hlk ht1 ht2 (by decide) (by omega) (Nat.le_of_ble_eq_true rfl) (by omega) (fun H q9 ce_37 hI hq1 hq2 hq3 => ?_)
    exact hthr () _ _ _ _ _ _ _ _ _ _ hq1 hq2 hq3 hI ⟨rfl, (by first | omega | with_reducible assumption)⟩ (by omega) (by omega)
  · skip
    have i_in : ¬ z.toInt < (0 : Int32).toInt := fun z => c_in (Int32.lt_iff_toInt_lt.mpr z)
    rw [show (0 : Int32).toInt = 0 from rfl] at i_in
    obtain ⟨N, hN, rfl⟩ : ∃ N, N ≤ 40 ∧ z = nI N := nat_le_of (by omega) (by omega)
    refine r_newa (n := N) (a0 := (N, .inl (fun _ => 0))) hxR hbR hts hA hK hI (atype := .short) rfl q403 5 rfl (fun h => h) (fun _ => rfl) (by omega) (by show N * 2 ≤ 536870912; omega) (Nat.le_of_ble_eq_true rfl) (by show 0 + N ≤ 54; omega) dX0_rowOf_37 (fun q_37 H hI => ?_)
    have hI := wI_w (ws' := rowW E q_37 1 N (fun _ => 0)) (row0_1 E q_37 N) hI
    have hI := wI_w (ws' := rowW E q_37 1 (nI N).toNatClampNeg (fun _ => 0)) (by rw [nI_clamp (by omega)]) hI
    exact hret () q_37 _ _ _ _ _ _ dX0_rowOf_39 hI (by rw [nI_toInt (by omega)]; omega) (by omega) (by omega)

theorem c0_rowOf_2 (l : Launch) (E : En)  (z : Int32) (hlt : l.stackTraces = false) (hz : z.toInt ≤ 40) : XtR l E yX0_rowOf (ws_ yX0_rowOf cX0_rowOf 2 (some (FieldType.object "java/lang/Object"))) 105 3 54 [.int 2, .int z] (([] : va_W)) (fun (r : Nat) (u : Unit) => 0 ≤ z.toInt) (fun (u : Unit) (q : Nat) => rowW E q 2 z.toNatClampNeg (fun _ => 0)) (fun (En : String) (u : Unit) => En = "java/lang/NegativeArraySizeException" ∧ z < 0) (fun (u : Unit) (q : Nat) => ([] : va_W)) := by
  refine XtR.of (by decide +kernel) (Nat.le_of_ble_eq_true rfl) (by first | exact Or.inl ⟨_, rfl⟩ | exact Or.inr ⟨_, rfl⟩) ?_
  intro pR eR sR mR aR bR tR cR AR ls QR hxR hbR hmlR hts hown hlk hnm hA hK hI hl hret hthr
  have hl : lv_has ls 2 [(0, .int 2), (1, .int z)] := hl
  refine lv_iload_n hxR hbR dX0_rowOf_0 rfl (lv_at hl 0 rfl) ?_
  refine lv_tableIn (tgt := 40) hxR hbR dX0_rowOf_1 (by decide) (by decide) rfl (by decide) ?_
  refine lv_iload_n hxR hbR dX0_rowOf_40 rfl (lv_at hl 1 rfl) ?_
  by_cases c_in : z < 0
  · skip
    refine vx_newarrayZ hxR hbR c_in dX0_rowOf_41 (fun tx etx => ?_)
    obtain ⟨ht1, ht2⟩ := tx_ng c_in etx
    refine r_vm_neg hxR hlt hmlR hts hK hI hl.1 hlk ht1 ht2 (by decide) (by omega) (Nat.le_of_ble_eq_true rfl) (by omega) (fun H q9 ce_41 hI hq1 hq2 hq3 => ?_)
    exact hthr () _ _ _ _ _ _ _ _ _ _ hq1 hq2 hq3 hI ⟨rfl, (by first | omega | with_reducible assumption)⟩ (by omega) (by omega)
  · skip
    have i_in : ¬ z.toInt < (0 : Int32).toInt := fun z => c_in (Int32.lt_iff_toInt_lt.mpr z)
    rw [show (0 : Int32).toInt = 0 from rfl] at i_in
    obtain ⟨N, hN, rfl⟩ : ∃ N, N ≤ 40 ∧ z = nI N := nat_le_of (by omega) (by omega)
    refine r_newa (n := N) (a0 := (N, .inl (fun _ => 0))) hxR hbR hts hA hK hI (atype := .int) rfl q181 0 rfl (fun h => h) (fun _ => rfl) (by omega) (by show N * 4 ≤ 536870912; omega) (Nat.le_of_ble_eq_true rfl) (by show 0 + N ≤ 54; omega) dX0_rowOf_41 (fun q_41 H hI => ?_)
    have hI := wI_w (ws' := rowW E q_41 2 N (fun _ => 0)) (row0_2 E q_41 N) hI
    have hI := wI_w (ws' := rowW E q_41 2 (nI N).toNatClampNeg (fun _ => 0)) (by rw [nI_clamp (by omega)]) hI
    exact hret () q_41 _ _ _ _ _ _ dX0_rowOf_43 hI (by rw [nI_toInt (by omega)]; omega) (by omega) (by omega)

theorem c0_rowOf_3 (l : Launch) (E : En)  (z : Int32) (hlt : l.stackTraces = false) (hz : z.toInt ≤ 40) : XtR l E yX0_rowOf (ws_ yX0_rowOf cX0_rowOf 2 (some (FieldType.object "java/lang/Object"))) 105 3 54 [.int 3, .int z] (([] : va_W)) (fun (r : Nat) (u : Unit) => 0 ≤ z.toInt) (fun (u : Unit) (q : Nat) => rowW E q 3 z.toNatClampNeg (fun _ => 0)) (fun (En : String) (u : Unit) => En = "java/lang/NegativeArraySizeException" ∧ z < 0) (fun (u : Unit) (q : Nat) => ([] : va_W)) := by
  refine XtR.of (by decide +kernel) (Nat.le_of_ble_eq_true rfl) (by first | exact Or.inl ⟨_, rfl⟩ | exact Or.inr ⟨_, rfl⟩) ?_
  intro pR eR sR mR aR bR tR cR AR ls QR hxR hbR hmlR hts hown hlk hnm hA hK hI hl hret hthr
  have hl : lv_has ls 2 [(0, .int 3), (1, .int z)] := hl
  refine lv_iload_n hxR hbR dX0_rowOf_0 rfl (lv_at hl 0 rfl) ?_
  refine lv_tableIn (tgt := 44) hxR hbR dX0_rowOf_1 (by decide) (by decide) rfl (by decide) ?_
  refine lv_iload_n hxR hbR dX0_rowOf_44 rfl (lv_at hl 1 rfl) ?_
  by_cases c_in : z < 0
  · skip
    refine vx_newarrayZ hxR hbR c_in dX0_rowOf_45 (fun tx etx => ?_)
    obtain ⟨ht1, ht2⟩ := tx_ng c_in etx
    refine r_vm_neg hxR hlt hmlR hts hK hI hl.1 hlk ht1 ht2 (by decide) (by omega) (Nat.le_of_ble_eq_true rfl) (by omega) (fun H q9 ce_45 hI hq1 hq2 hq3 => ?_)
    exact hthr () _ _ _ _ _ _ _ _ _ _ hq1 hq2 hq3 hI ⟨rfl, (by first | omega | with_reducible assumption)⟩ (by omega) (by omega)
  · skip
    have i_in : ¬ z.toInt < (0 : Int32).toInt := fun z => c_in (Int32.lt_iff_toInt_lt.mpr z)
    rw [show (0 : Int32).toInt = 0 from rfl] at i_in
    obtain ⟨N, hN, rfl⟩ : ∃ N, N ≤ 40 ∧ z = nI N := nat_le_of (by omega) (by omega)
    refine r_newa (n := N) (a0 := (N, .inr (.inl (fun _ => 0)))) hxR hbR hts hA hK hI (atype := .long) rfl q404 1 rfl (fun h => h) (fun _ => rfl) (by omega) (by show N * 8 ≤ 536870912; omega) (Nat.le_of_ble_eq_true rfl) (by show 0 + N ≤ 54; omega) dX0_rowOf_45 (fun q_45 H hI => ?_)
    have hI := wI_w (ws' := rowW E q_45 3 N (fun _ => 0)) (row0_3 E q_45 N) hI
    have hI := wI_w (ws' := rowW E q_45 3 (nI N).toNatClampNeg (fun _ => 0)) (by rw [nI_clamp (by omega)]) hI
    exact hret () q_45 _ _ _ _ _ _ dX0_rowOf_47 hI (by rw [nI_toInt (by omega)]; omega) (by omega) (by omega)

theorem c0_rowOf_4 (l : Launch) (E : En)  (z : Int32) (hlt : l.stackTraces = false) (hz : z.toInt ≤ 40) : XtR l E yX0_rowOf (ws_ yX0_rowOf cX0_rowOf 2 (some (FieldType.object "java/lang/Object"))) 105 3 54 [.int 4, .int z] (([] : va_W)) (fun (r : Nat) (u : Unit) => 0 ≤ z.toInt) (fun (u : Unit) (q : Nat) => rowW E q 4 z.toNatClampNeg (fun _ => 0)) (fun (En : String) (u : Unit) => En = "java/lang/NegativeArraySizeException" ∧ z < 0) (fun (u : Unit) (q : Nat) => ([] : va_W)) := by
  refine XtR.of (by decide +kernel) (Nat.le_of_ble_eq_true rfl) (by first | exact Or.inl ⟨_, rfl⟩ | exact Or.inr ⟨_, rfl⟩) ?_
  intro pR eR sR mR aR bR tR cR AR ls QR hxR hbR hmlR hts hown hlk hnm hA hK hI hl hret hthr
  have hl : lv_has ls 2 [(0, .int 4), (1, .int z)] := hl
  refine lv_iload_n hxR hbR dX0_rowOf_0 rfl (lv_at hl 0 rfl) ?_
  refine lv_tableOut (tgt := 48) hxR hbR dX0_rowOf_1 (by decide) (by decide) ?_
  refine lv_iload_n hxR hbR dX0_rowOf_48 rfl (lv_at hl 1 rfl) ?_
  by_cases c_in : z < 0
  · skip
    refine vx_newarrayZ hxR hbR c_in dX0_rowOf_49 (fun tx etx => ?_)
    obtain ⟨ht1, ht2⟩ := tx_ng c_in etx
    refine r_vm_neg hxR hlt hmlR hts hK hI hl.1 hlk ht1 ht2 (by decide) (by omega) (Nat.le_of_ble_eq_true rfl) (by omega) (fun H q9 ce_49 hI hq1 hq2 hq3 => ?_)
    exact hthr () _ _ _ _ _ _ _ _ _ _ hq1 hq2 hq3 hI ⟨rfl, (by first | omega | with_reducible assumption)⟩ (by omega) (by omega)
  · skip
    have i_in : ¬ z.toInt < (0 : Int32).toInt := fun z => c_in (Int32.lt_iff_toInt_lt.mpr z)
    rw [show (0 : Int32).toInt = 0 from rfl] at i_in
    obtain ⟨N, hN, rfl⟩ : ∃ N, N ≤ 40 ∧ z = nI N := nat_le_of (by omega) (by omega)
    refine r_newa (n := N) (a0 := (N, .inl (fun _ => 0))) hxR hbR hts hA hK hI (atype := .boolean) rfl q405 6 rfl (fun h => h) (fun _ => rfl) (by omega) (by show N * 1 ≤ 536870912; omega) (Nat.le_of_ble_eq_true rfl) (by show 0 + N ≤ 54; omega) dX0_rowOf_49 (fun q_49 H hI => ?_)
    have hI := wI_w (ws' := rowW E q_49 4 N (fun _ => 0)) (row0_4 E q_49 N) hI
    have hI := wI_w (ws' := rowW E q_49 4 (nI N).toNatClampNeg (fun _ => 0)) (by rw [nI_clamp (by omega)]) hI
    exact hret () q_49 _ _ _ _ _ _ dX0_rowOf_51 hI (by rw [nI_toInt (by omega)]; omega) (by omega) (by omega)

theorem c0_rowOf (l : Launch) (E : En)  (sow : Nat) (z : Int32) (hlt : l.stackTraces = false) (hso : sow ≤ 4) (hz : z.toInt ≤ 40) : XtR l E yX0_rowOf (ws_ yX0_rowOf cX0_rowOf 2 (some (FieldType.object "java/lang/Object"))) 105 3 54 [.int (nI sow), .int z] (([] : va_W)) (fun (r : Nat) (u : Unit) => 0 ≤ z.toInt) (fun (u : Unit) (q : Nat) => rowW E q sow z.toNatClampNeg (fun _ => 0)) (fun (En : String) (u : Unit) => En = "java/lang/NegativeArraySizeException" ∧ z < 0) (fun (u : Unit) (q : Nat) => ([] : va_W)) := by
  rcases sow with _ | _ | _ | _ | _ | so9
  · exact c0_rowOf_0 l E z hlt hz
  · exact c0_rowOf_1 l E z hlt hz
  · exact c0_rowOf_2 l E z hlt hz
  · exact c0_rowOf_3 l E z hlt hz
  · exact c0_rowOf_4 l E z hlt hz
  · omega
