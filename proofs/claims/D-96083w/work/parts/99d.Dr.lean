/-- a row of longs on its own -/
def laW (E : En) (q n : Nat) (R : Nat → Int64) : va_W := [(q, .inl (E.2 1, n, .inr (.inl R)))]
theorem up_l1 {tf g : Nat → Int64} {j : Nat} (h : ∀ i, i < j → tf i = g i) : ∀ i, i < j + 1 → va_up tf j (g j) i = g i := by
  intro i hi
  by_cases e : i = j
  · subst e; rw [va_up_s]
  · rw [va_up_n e]; exact h i (by omega)
theorem noDay_bad {sh sz : Nat → Int32} {x k : Int32} (h : ¬ ((0 ≤ x.toInt ∧ x.toInt ≤ 7) ∧ (0 ≤ k.toInt ∧ k.toInt ≤ 7))) : noDayV sh sz x k = -2 := by unfold noDayV; exact if_neg h
theorem noDay_row {sh sz : Nat → Int32} {x k : Int32} (h1 : 0 ≤ x.toInt ∧ x.toInt ≤ 7) (h2 : 0 ≤ k.toInt ∧ k.toInt ≤ 7) (h : ¬ noRowV sh x = 0) : noDayV sh sz x k = noRowV sh x := by unfold noDayV; rw [if_pos ⟨h1, h2⟩, if_neg h]
theorem noDay_few {sh sz : Nat → Int32} {P N z : Nat} (hP : P < 8) (hN : N ≤ 7) (h : sh P = 1) (hz : sz P = nI z) (hz4 : z ≤ 40) (hf : z < N) : noDayV sh sz (nI P) (nI N) = -2 := by
  unfold noDayV
  rw [if_pos ⟨in7 hP, in7 (by omega)⟩, if_pos (norow_1 hP h), nI_clamp (n := P) (by omega), hz, nI_clamp (by omega), nI_toInt (by omega)]
  exact if_pos (by omega)
theorem noDay_ok {sh sz : Nat → Int32} {P N z : Nat} (hP : P < 8) (hN : N ≤ 7) (h : sh P = 1) (hz : sz P = nI z) (hz4 : z ≤ 40) (hf : N ≤ z) : noDayV sh sz (nI P) (nI N) = 0 := by
  unfold noDayV
  rw [if_pos ⟨in7 hP, in7 (by omega)⟩, if_pos (norow_1 hP h), nI_clamp (n := P) (by omega), hz, nI_clamp (by omega), nI_toInt (by omega)]
  exact if_neg (by omega)
theorem noDay_r {sh sz : Nat → Int32} {x k : Int32} (h : ¬ noDayV sh sz x k = 0) : noDayV sh sz x k = -2 ∨ noDayV sh sz x k = -3 ∨ noDayV sh sz x k = -4 := by
  unfold noDayV at h ⊢
  split at h
  · rename_i h1
    rw [if_pos h1]
    split at h
    · rename_i h2
      rw [if_pos h2]
      split at h
      · rename_i h3; rw [if_pos h3]; exact Or.inl rfl
      · exact absurd rfl h
    · rename_i h2; rw [if_neg h2]; exact norow_r h
  · rename_i h1; rw [if_neg h1]; exact Or.inl rfl
theorem told_and {r : Nat → Int64} {k n g : Nat} (h : 0 ≤ (r k).toInt ∧ (r k).toInt ≤ ((2 ^ n - 1 : Nat) : Int)) (hn : 2 ^ n ≤ 2 ^ 7) (hg : g < 2 ^ 7) : r k &&& (nI g).toInt64 = 0 ↔ tS r k &&& g = 0 := by
  have e1 : r k = Int64.ofNat (tS r k) := by
    apply Int64.toInt_inj.mp
    rw [Int64.toInt_ofNat_of_lt (by unfold tS; omega)]
    unfold tS; omega
  have e2 : (nI g).toInt64 = Int64.ofNat g := by
    apply Int64.toInt_inj.mp
    rw [Int64.toInt_ofNat_of_lt (by omega), Int32.toInt_toInt64, nI_toInt (by omega)]
  have hle := @Nat.and_le_right (tS r k) g
  rw [e1, e2]
  constructor
  · intro z
    have z2 := congrArg Int64.toBitVec z
    have z3 := congrArg BitVec.toNat z2
    rw [Int64.toBitVec_and] at z3
    have b1 : (Int64.ofNat (tS r k)).toBitVec.toNat = tS r k := by
      show (BitVec.ofNat 64 _).toNat = _
      rw [BitVec.toNat_ofNat]; unfold tS; omega
    have b2 : (Int64.ofNat g).toBitVec.toNat = g := by
      show (BitVec.ofNat 64 _).toNat = _
      rw [BitVec.toNat_ofNat]; omega
    rw [BitVec.toNat_and, b1, b2] at z3
    exact z3
  · intro z
    apply Int64.toBitVec_inj.mp
    apply BitVec.eq_of_toNat_eq
    have b1 : (Int64.ofNat (tS r k)).toBitVec.toNat = tS r k := by
      show (BitVec.ofNat 64 _).toNat = _
      rw [BitVec.toNat_ofNat]; unfold tS; omega
    have b2 : (Int64.ofNat g).toBitVec.toNat = g := by
      show (BitVec.ofNat 64 _).toNat = _
      rw [BitVec.toNat_ofNat]; omega
    rw [Int64.toBitVec_and, BitVec.toNat_and, b1, b2, z]
    rfl

theorem c0_toldIn (l : Launch) (E : En) (ad : Nat → Nat) (iv : Nat → Int32) (ch : Nat → Int32) (rd : Nat → Int32) (tp : Nat → Int32) (rf : Nat → Int32) (nw : Nat) (tr : Nat) (gr : Nat) (dy : Nat) (im : Option Nat) (aqI : Nat → Nat) (shI : Nat → Int32) (soI : Nat → Int32) (szI : Nat → Int32) (kmI : Nat → Int32) (bmI : Nat → Int32) (RI : Nat → Nat → Int64) (x k : Int32) (hlt : l.stackTraces = false) (hsh : ∀ P, P < 8 → shI P = 0 ∨ shI P = 1 ∨ shI P = 2) (hso : ∀ P, P < 8 → ∃ k, k ≤ 4 ∧ soI P = nI k) (hsz : ∀ P, P < 8 → ∃ k, k ≤ 40 ∧ szI P = nI k) (hkm : ∀ P, P < 8 → shI P = 2 → ∃ k, 1 ≤ k ∧ k ≤ 5 ∧ kmI P = nI k) (hbm : ∀ P, P < 8 → ∃ k, k < 100 ∧ bmI P = nI k) (hrk : ∀ P, P < 8 → shI P = 1 → ∀ j, j < (szI P).toNatClampNeg → rOk (soI P).toNatClampNeg (RI P j)) : XtR l E yX0_toldIn (wsW_ yX0_toldIn cX0_toldIn 6 (some (FieldType.array FieldType.long)) [(38, 64, 67, 126)]) 107 24 1600 [.ref (ad 11), .int x, .int k] (xW E ad iv ch rd tp rf (hdI shI aqI) nw tr gr dy im ++ (itsW (itF E aqI shI soI szI kmI bmI RI))) (fun (r : Nat) (u : Unit) => noDayV shI szI x k = 0) (fun (u : Unit) (q : Nat) => xW E ad iv ch rd tp rf (hdI shI aqI) nw tr gr dy im ++ (itsW (itF E aqI shI soI szI kmI bmI RI) ++ (laW E q k.toNatClampNeg (RI x.toNatClampNeg)))) (fun (En : String) (u : Unit) => En = "ThreeStrangers$Refused" ∧ ¬ noDayV shI szI x k = 0) (fun (u : Unit) (q : Nat) => xW E ad iv ch rd tp rf (hdI shI aqI) nw tr gr dy im ++ (itsW (itF E aqI shI soI szI kmI bmI RI) ++ ([(q, .inr (6, [.null, .null, .null, .null, .null, .int 0, .int (noDayV shI szI x k)]))]))) := by
  refine XtR.ofH (by decide +kernel) (Nat.le_of_ble_eq_true rfl) (by first | exact Or.inl ⟨_, rfl⟩ | exact Or.inr ⟨_, rfl⟩) ?_
  intro pR eR sR mR aR bR tR cR AR ls QR hxR hbR hmlR hts hown hlk hnm hA hK hI hl htab hret hthr
  have hl : lv_has ls 6 [(0, .ref (ad 11)), (1, .int x), (2, .int k)] := hl
  refine lv_iload_n hxR hbR dX0_toldIn_0 rfl (lv_at hl 1 rfl) ?_
  refine kSI (n := 1) (As := [.int x]) (rest := []) (fun w => w ++ (xW E ad iv ch rd tp rf (hdI shI aqI) nw tr gr dy im ++ (itsW (itF E aqI shI soI szI kmI bmI RI)))) hxR hbR hmlR hts hown hK hA hl.1 (isCtx.suf _) hI (c0_isShelf l E  x ) (lw_S q390 q391 q81 q392) (by decide +kernel) rfl (Nat.le_of_ble_eq_true rfl) (Nat.le_of_ble_eq_true rfl) ⟨by omega, by omega⟩ (Nat.le_of_ble_eq_true rfl) dX0_toldIn_1 (fun r_1 u H locs hp hI hz => ?_)
  have hI : wI E AR sR H locs (xW E ad iv ch rd tp rf (hdI shI aqI) nw tr gr dy im ++ (itsW (itF E aqI shI soI szI kmI bmI RI))) := hI
  have hp : r_1 = b2i (decide (0 ≤ x.toInt ∧ x.toInt ≤ 7)) := hp
  have hr_1 := hp
  rcases b2i_cases hr_1 with ⟨c_1, rfl⟩ | ⟨c_1, rfl⟩
  · skip
    have c_1 : 0 ≤ Int32.toInt x ∧ Int32.toInt x ≤ 7 := of_decide_eq_true c_1
    obtain ⟨P, hP, rfl⟩ := nat7 c_1
    have tP : (nI P).toInt = (P : Int) := nI_toInt (by omega)
    refine lv_if_eq (tgt := 17) hxR hbR dX0_toldIn_4 (by decide) (fun c => absurd c (by decide)) (fun _ => ?_)
    refine lv_iload_n hxR hbR dX0_toldIn_7 rfl (lv_at hl 2 rfl) ?_
    refine lv_iconst (v := 0) hxR hbR dX0_toldIn_8 (by decide) ?_
    refine lv_bipush (v := 7) hxR hbR dX0_toldIn_9 (by decide) ?_
    refine kSI (n := 3) (As := [.int k, .int 0, .int 7]) (rest := []) (fun w => w ++ (xW E ad iv ch rd tp rf (hdI shI aqI) nw tr gr dy im ++ (itsW (itF E aqI shI soI szI kmI bmI RI)))) hxR hbR hmlR hts hown hK hA hl.1 (isCtx.suf _) hI (c0_isIn l E  k 0 7 ) (lw_S q393 q394 q81 q395) (by decide +kernel) rfl (Nat.le_of_ble_eq_true rfl) (Nat.le_of_ble_eq_true rfl) ⟨by omega, by omega⟩ (Nat.le_of_ble_eq_true rfl) dX0_toldIn_11 (fun r_11 u H locs hp hI hz => ?_)
    have hI : wI E AR sR H locs (xW E ad iv ch rd tp rf (hdI shI aqI) nw tr gr dy im ++ (itsW (itF E aqI shI soI szI kmI bmI RI))) := hI
    have hp : r_11 = b2i (decide (Int32.toInt 0 ≤ Int32.toInt k ∧ Int32.toInt k ≤ Int32.toInt 7)) := hp
    have hr_11 := hp
    rcases b2i_cases hr_11 with ⟨c_11, rfl⟩ | ⟨c_11, rfl⟩
    · skip
      have c_11 : Int32.toInt 0 ≤ Int32.toInt k ∧ Int32.toInt k ≤ Int32.toInt 7 := of_decide_eq_true c_11
      have c_11 : 0 ≤ k.toInt ∧ k.toInt ≤ 7 := by exact c_11
      obtain ⟨N, hN, rfl⟩ := nat_le_of (m := 7) c_11.1 c_11.2
      have tN : (nI N).toInt = (N : Int) := nI_toInt (by omega)
      refine lv_if_ne (tgt := 27) hxR hbR dX0_toldIn_14 (by decide) (fun _ => ?_) (fun c => absurd c (by decide))
      refine lv_aload_n hxR hbR dX0_toldIn_27 rfl (lv_at hl 0 rfl) ?_
      refine lv_iload_n hxR hbR dX0_toldIn_28 rfl (lv_at hl 1 rfl) ?_
      refine kVRX (n := 1) (As := [.int (nI P)]) (rest := []) (fun w => w) hxR hbR hmlR hts hown hK hA hl.1 isCtx.id hI (c0_rowIn l E ad iv ch rd tp rf nw tr gr dy im aqI shI soI szI kmI bmI RI P hlt hP (by first | omega | with_reducible assumption) (by first | omega | with_reducible assumption) (by first | omega | with_reducible assumption) (by first | omega | with_reducible assumption) (by first | omega | with_reducible assumption)) (lw_V q430 q432 qs3 q81 q433) ⟨rfl, by decide +kernel⟩ 8 0 rfl rfl (he_l xW_o) rfl (Nat.le_of_ble_eq_true rfl) (Nat.le_of_ble_eq_true rfl) ⟨by omega, by omega⟩ (Nat.le_of_ble_eq_true rfl) dX0_toldIn_29 (fun En ce_29 q_29 u H locs hX hI hz hq1 hq2 hq3 => ?_) (fun r_29 u H locs hp hI hz => ?_)
      · skip
        have hI : wI E AR sR H locs (xW E ad iv ch rd tp rf (hdI shI aqI) nw tr gr dy im ++ (itsW (itF E aqI shI soI szI kmI bmI RI) ++ ([(q_29, .inr (6, [.null, .null, .null, .null, .null, .int 0, .int (noRowV shI (nI P))]))]))) := hI
        have hI : wI E AR sR _ _ (xW E ad iv ch rd tp rf (hdI shI aqI) nw tr gr dy im ++ ([(q_29, .inr (6, [.null, .null, .null, .null, .null, .int 0, .int (noRowV shI (nI P))]))] ++ (itsW (itF E aqI shI soI szI kmI bmI RI)))) := wI_pick ([xW E ad iv ch rd tp rf (hdI shI aqI) nw tr gr dy im, itsW (itF E aqI shI soI szI kmI bmI RI), [(q_29, .inr (6, [.null, .null, .null, .null, .null, .int 0, .int (noRowV shI (nI P))]))]]) [0, 2, 1] 3 rfl (by decide) hI
        have hX : En = "ThreeStrangers$Refused" ∧ ¬ noRowV shI (nI P) = 0 := hX
        obtain ⟨rfl, hy9_29⟩ := hX
        have hI : wI E AR sR _ _ (xW E ad iv ch rd tp rf (hdI shI aqI) nw tr gr dy im ++ (itsW (itF E aqI shI soI szI kmI bmI RI) ++ ([(q_29, .inr (6, [.null, .null, .null, .null, .null, .int 0, .int (noRowV shI (nI P))]))]))) := wI_pick ([xW E ad iv ch rd tp rf (hdI shI aqI) nw tr gr dy im, [(q_29, .inr (6, [.null, .null, .null, .null, .null, .int 0, .int (noRowV shI (nI P))]))], itsW (itF E aqI shI soI szI kmI bmI RI)]) [0, 2, 1] 3 rfl (by decide) hI
        have hI := wI_w (ws' := xW E ad iv ch rd tp rf (hdI shI aqI) nw tr gr dy im ++ (itsW (itF E aqI shI soI szI kmI bmI RI) ++ ([(q_29, .inr (6, [.null, .null, .null, .null, .null, .int 0, .int (noDayV shI szI (nI P) (nI N))]))]))) (by rw [show noDayV shI szI (nI P) (nI N) = noRowV shI (nI P) from (noDay_row (in7 hP) (in7 (by omega)) hy9_29)]) hI
        exact hthr () _ _ _ _ _ _ _ _ _ _ hq1 hq2 hq3 hI ⟨rfl, (by rw [(noDay_row (in7 hP) (in7 (by omega)) hy9_29)]; exact hy9_29)⟩ (by omega) (by omega) (List.forall_mem_cons.mpr ⟨Or.inl (by decide), (fun z hz => absurd hz List.not_mem_nil)⟩)
      · skip
        have hI : wI E AR sR H locs (xW E ad iv ch rd tp rf (hdI shI aqI) nw tr gr dy im ++ (itsW (itF E aqI shI soI szI kmI bmI RI))) := hI
        have hp : r_29 = aqI P ∧ shI P = 1 := hp
        obtain ⟨rfl, hrow_29⟩ := hp
        have c_h := hrow_29
        have hI : wI E AR sR _ _ (itsW (itF E aqI shI soI szI kmI bmI RI) ++ (xW E ad iv ch rd tp rf (hdI shI aqI) nw tr gr dy im)) := wI_pick ([xW E ad iv ch rd tp rf (hdI shI aqI) nw tr gr dy im, itsW (itF E aqI shI soI szI kmI bmI RI)]) [1, 0] 2 rfl (by decide) hI
        obtain ⟨zo, hzo, hzo9⟩ := hso P hP
        obtain ⟨zn, hzn, hzn9⟩ := hsz P hP
        have hI := its_out (f := itF E aqI shI soI szI kmI bmI RI) hP (itF_row c_h hzo9 hzn9 (by omega) (by omega)) hI
        have hI : wI E AR sR _ _ (rowW E (aqI P) zo zn (RI P) ++ (itsX (itF E aqI shI soI szI kmI bmI RI) P ++ (xW E ad iv ch rd tp rf (hdI shI aqI) nw tr gr dy im))) := hI
        have hI : wI E AR sR _ _ (xW E ad iv ch rd tp rf (hdI shI aqI) nw tr gr dy im ++ (rowW E (aqI P) zo zn (RI P) ++ (itsX (itF E aqI shI soI szI kmI bmI RI) P))) := wI_pick ([rowW E (aqI P) zo zn (RI P), itsX (itF E aqI shI soI szI kmI bmI RI) P, xW E ad iv ch rd tp rf (hdI shI aqI) nw tr gr dy im]) [2, 0, 1] 3 rfl (by decide) hI
        refine lv_astore_n (lv' := [(3, .ref (aqI P)), (0, .ref (ad 11)), (1, .int (nI P)), (2, .int (nI N))]) hxR hbR dX0_toldIn_32 rfl hl (by decide) rfl (fun ls hl => ?_)
        refine lv_iload_n hxR hbR dX0_toldIn_33 rfl (lv_at hl 3 rfl) ?_
        refine r_newa (n := N) (a0 := (N, .inr (.inl (fun _ => 0)))) hxR hbR hts hA hK hI (atype := .long) rfl q404 1 rfl (fun h => h) (fun _ => rfl) (by omega) (by show N * 8 ≤ 536870912; omega) (Nat.le_of_ble_eq_true rfl) (by show 0 + 7 + N ≤ 1600; omega) dX0_toldIn_34 (fun q_34 H hI => ?_)
        have hI := wI_w app3.symm hI
        have hI : wI E AR sR H _ (xW E ad iv ch rd tp rf (hdI shI aqI) nw tr gr dy im ++ (rowW E (aqI P) zo zn (RI P) ++ (itsX (itF E aqI shI soI szI kmI bmI RI) P ++ (laW E q_34 N (fun _ => 0))))) := hI
        have hI : wI E AR sR _ _ (xW E ad iv ch rd tp rf (hdI shI aqI) nw tr gr dy im ++ (rowW E (aqI P) zo zn (RI P) ++ (laW E q_34 N (fun _ => 0) ++ (itsX (itF E aqI shI soI szI kmI bmI RI) P)))) := wI_pick ([xW E ad iv ch rd tp rf (hdI shI aqI) nw tr gr dy im, rowW E (aqI P) zo zn (RI P), itsX (itF E aqI shI soI szI kmI bmI RI) P, laW E q_34 N (fun _ => 0)]) [0, 1, 3, 2] 4 rfl (by decide) hI
        refine lv_astore (lv' := [(4, .ref q_34), (3, .ref (aqI P)), (0, .ref (ad 11)), (1, .int (nI P)), (2, .int (nI N))]) hxR hbR dX0_toldIn_36 hl (by decide) rfl (fun ls hl => ?_)
        refine lv_iconst (v := 0) hxR hbR dX0_toldIn_38 (by decide) ?_
        refine lv_istore (lv' := [(5, .int 0), (4, .ref q_34), (3, .ref (aqI P)), (0, .ref (ad 11)), (1, .int (nI P)), (2, .int (nI N))]) hxR hbR dX0_toldIn_39 hl (by decide) rfl (fun ls hl => ?_)
        have lp_41 : ∀ (fu : Nat) (j : Nat) (tf : Nat → Int64) (cc : Nat) (zz : Nat), (j ≤ N) → (j ≤ zn) → (∀ i, i < j → tf i = RI P i) → (cc ≤ 2 + 3 * j) → (zz ≤ 14 + 222 * j) → N - j < fu → ∀ (H : Heap) (locs : List Loc), wI E AR sR H locs (xW E ad iv ch rd tp rf (hdI shI aqI) nw tr gr dy im ++ (rowW E (aqI P) zo zn (RI P) ++ (laW E q_34 N tf ++ (itsX (itF E aqI shI soI szI kmI bmI RI) P)))) → ∀ ls : Array Slot, lv_has ls 6 [(0, .ref (ad 11)), (1, .int (nI P)), (2, .int (nI N)), (3, .ref (aqI P)), (4, .ref q_34), (5, .int (nI j))] → W pR l eR (rmF 107 24 1600) sR mR aR bR tR cR H locs cc zz QR (F0 mR 41 ls []) := by
          intro fu
          induction fu with
          | zero =>
            intro j tf cc zz hj hjn htf hcc hzz hfu
            exact absurd hfu (Nat.not_lt_zero _)
          | succ fu ih_41 =>
            intro j tf cc zz hj hjn htf hcc hzz hfu H locs hI ls hl
            refine lv_iload hxR hbR dX0_toldIn_41 (lv_at hl 5 rfl) ?_
            refine lv_iload_n hxR hbR dX0_toldIn_43 rfl (lv_at hl 2 rfl) ?_
            refine lv_icmp_ge (tgt := 64) hxR hbR dX0_toldIn_44 (by decide) (fun c_44 => ?_) (fun c_44 => ?_)
            · skip
              have c_44 : N ≤ j := (n_le (a := N) (b := j) (by omega) (by omega)).mp c_44
              refine lv_goto (tgt := 79) hxR hbR dX0_toldIn_64 (by decide) ?_
              refine lv_aload hxR hbR dX0_toldIn_79 (lv_at hl 4 rfl) ?_
              have hI : wI E AR sR _ _ (rowW E (aqI P) zo zn (RI P) ++ (itsX (itF E aqI shI soI szI kmI bmI RI) P ++ (xW E ad iv ch rd tp rf (hdI shI aqI) nw tr gr dy im ++ (laW E q_34 N tf)))) := wI_pick ([xW E ad iv ch rd tp rf (hdI shI aqI) nw tr gr dy im, rowW E (aqI P) zo zn (RI P), laW E q_34 N tf, itsX (itF E aqI shI soI szI kmI bmI RI) P]) [1, 3, 0, 2] 4 rfl (by decide) hI
              have hI := its_in (f := itF E aqI shI soI szI kmI bmI RI) (g := itF E aqI shI soI szI kmI bmI RI) hP (fun _ _ => rfl) (itF_row c_h hzo9 hzn9 (by omega) (by omega)) hI
              have hI : wI E AR sR _ _ (itsW (itF E aqI shI soI szI kmI bmI RI) ++ (xW E ad iv ch rd tp rf (hdI shI aqI) nw tr gr dy im ++ (laW E q_34 N tf))) := hI
              have hI : wI E AR sR _ _ (xW E ad iv ch rd tp rf (hdI shI aqI) nw tr gr dy im ++ (laW E q_34 N tf ++ (itsW (itF E aqI shI soI szI kmI bmI RI)))) := wI_pick ([itsW (itF E aqI shI soI szI kmI bmI RI), xW E ad iv ch rd tp rf (hdI shI aqI) nw tr gr dy im, laW E q_34 N tf]) [1, 2, 0] 3 rfl (by decide) hI
              have hI : wI E AR sR _ _ (xW E ad iv ch rd tp rf (hdI shI aqI) nw tr gr dy im ++ (itsW (itF E aqI shI soI szI kmI bmI RI) ++ (laW E q_34 N tf))) := wI_pick ([xW E ad iv ch rd tp rf (hdI shI aqI) nw tr gr dy im, laW E q_34 N tf, itsW (itF E aqI shI soI szI kmI bmI RI)]) [0, 2, 1] 3 rfl (by decide) hI
              have hI := wI_same (sameW.app (sameW.rf _) (sameW.app (sameW.rf _) (show sameW (laW E q_34 N tf) (laW E q_34 N (RI P)) from ⟨rfl, sameC.l (fun z hz => htf z (by omega)), trivial⟩))) hI
              have hI : wI E AR sR _ _ (xW E ad iv ch rd tp rf (hdI shI aqI) nw tr gr dy im ++ (itsW (itF E aqI shI soI szI kmI bmI RI) ++ (laW E q_34 N (RI P)))) := hI
              have hI := wI_w (ws' := xW E ad iv ch rd tp rf (hdI shI aqI) nw tr gr dy im ++ (itsW (itF E aqI shI soI szI kmI bmI RI) ++ (laW E q_34 (nI N).toNatClampNeg (RI (nI P).toNatClampNeg)))) (by rw [nI_clamp (n := P) (by omega), nI_clamp (n := N) (by omega)]) hI
              exact hret () q_34 _ _ _ _ _ _ dX0_toldIn_81 hI (by show noDayV shI szI (nI P) (nI N) = 0; exact noDay_ok hP hN c_h hzn9 hzn (by omega)) (by omega) (by omega)
            · skip
              have c_44 : j < N := Nat.lt_of_not_le (fun zz => c_44 ((n_le (a := N) (b := j) (by omega) (by omega)).mpr zz))
              refine lv_aload hxR hbR dX0_toldIn_47 (lv_at hl 4 rfl) ?_
              refine lv_iload hxR hbR dX0_toldIn_49 (lv_at hl 5 rfl) ?_
              refine lv_aload_n hxR hbR dX0_toldIn_51 rfl (lv_at hl 3 rfl) ?_
              refine lv_iload hxR hbR dX0_toldIn_52 (lv_at hl 5 rfl) ?_
              refine kSLX (n := 2) (As := [.ref (aqI P), .int (nI j)]) (rest := [.int (nI j), .ref q_34]) (fun w => (xW E ad iv ch rd tp rf (hdI shI aqI) nw tr gr dy im) ++ (w ++ (laW E q_34 N tf ++ (itsX (itF E aqI shI soI szI kmI bmI RI) P)))) hxR hbR hmlR hts hown hK hA hl.1 (isCtx.mk _ _) hI (c0_elementOf l E (aqI P) zo zn (RI P) (nI j) hlt hzo hzn (by have h9 := hrk P hP c_h; rw [hzo9, hzn9, nI_clamp (by omega), nI_clamp (by omega)] at h9; exact h9)) (lw_S q523 q524 q81 q525) (by decide +kernel) rfl (Nat.le_of_ble_eq_true rfl) (Nat.le_of_ble_eq_true rfl) ⟨by omega, by omega⟩ (Nat.le_of_ble_eq_true rfl) dX0_toldIn_54 (fun En ce_54 q_54 u H locs hX hI hz hq1 hq2 hq3 => ?_) (fun r_54 u H locs hp hI hz => ?_)
              · skip
                have hI : wI E AR sR H locs (xW E ad iv ch rd tp rf (hdI shI aqI) nw tr gr dy im ++ (rowW E (aqI P) zo zn (RI P) ++ (laW E q_34 N tf ++ (itsX (itF E aqI shI soI szI kmI bmI RI) P)))) := hI
                have hX : En = "java/lang/ArrayIndexOutOfBoundsException" ∧ ¬ vp_in (nI j) zn := hX
                obtain ⟨rfl, hout_54⟩ := hX
                refine r_catch 0 _ hown hts hK.xw htab rfl (fun z hz => absurd hz List.not_mem_nil) (by decide) (by decide) q411 q426 hq1 hq2 hq3 ?_
                refine W.eq (g2 := F0 mR 67 ls [.ref q_54]) rfl ?_
                refine lv_astore (lv' := [(5, .ref q_54), (0, .ref (ad 11)), (1, .int (nI P)), (2, .int (nI N)), (3, .ref (aqI P)), (4, .ref q_34)]) hxR hbR dX0_toldIn_67 hl (by decide) rfl (fun ls hl => ?_)
                have hI : wI E AR sR _ _ (rowW E (aqI P) zo zn (RI P) ++ (itsX (itF E aqI shI soI szI kmI bmI RI) P ++ (xW E ad iv ch rd tp rf (hdI shI aqI) nw tr gr dy im ++ (laW E q_34 N tf)))) := wI_pick ([xW E ad iv ch rd tp rf (hdI shI aqI) nw tr gr dy im, rowW E (aqI P) zo zn (RI P), laW E q_34 N tf, itsX (itF E aqI shI soI szI kmI bmI RI) P]) [1, 3, 0, 2] 4 rfl (by decide) hI
                have hI := its_in (f := itF E aqI shI soI szI kmI bmI RI) (g := itF E aqI shI soI szI kmI bmI RI) hP (fun _ _ => rfl) (itF_row c_h hzo9 hzn9 (by omega) (by omega)) hI
                have hI : wI E AR sR _ _ (itsW (itF E aqI shI soI szI kmI bmI RI) ++ (xW E ad iv ch rd tp rf (hdI shI aqI) nw tr gr dy im ++ (laW E q_34 N tf))) := hI
                have hI : wI E AR sR _ _ (xW E ad iv ch rd tp rf (hdI shI aqI) nw tr gr dy im ++ (laW E q_34 N tf ++ (itsW (itF E aqI shI soI szI kmI bmI RI)))) := wI_pick ([itsW (itF E aqI shI soI szI kmI bmI RI), xW E ad iv ch rd tp rf (hdI shI aqI) nw tr gr dy im, laW E q_34 N tf]) [1, 2, 0] 3 rfl (by decide) hI
                have hI : wI E AR sR _ _ (laW E q_34 N tf ++ (xW E ad iv ch rd tp rf (hdI shI aqI) nw tr gr dy im ++ (itsW (itF E aqI shI soI szI kmI bmI RI)))) := wI_pick ([xW E ad iv ch rd tp rf (hdI shI aqI) nw tr gr dy im, laW E q_34 N tf, itsW (itF E aqI shI soI szI kmI bmI RI)]) [1, 0, 2] 3 rfl (by decide) hI
                have hI := wI_dropL hI
                refine r_new (fs := [.null, .null, .null, .null, .null, .int 0, .int 0]) hxR hbR hts hown hA hK hI okX6 (ci := 6) rfl q410 q435 q94 (by decide +kernel) (by show cc + 3 + 1 ≤ 24; omega) (by show zz + 222 + 7 ≤ 1600; omega) dX0_toldIn_69 (fun q_69 H hI => ?_)
                have hI := wI_w app2.symm hI
                have hI : wI E AR sR H _ (xW E ad iv ch rd tp rf (hdI shI aqI) nw tr gr dy im ++ (itsW (itF E aqI shI soI szI kmI bmI RI) ++ ([(q_69, .inr (6, [.null, .null, .null, .null, .null, .int 0, .int 0]))]))) := hI
                refine lv_dup hxR hbR dX0_toldIn_72 rfl ?_
                refine lv_bipush (v := (-2)) hxR hbR dX0_toldIn_73 (by decide) ?_
                have hI : wI E AR sR _ _ ([(q_69, .inr (6, [.null, .null, .null, .null, .null, .int 0, .int 0]))] ++ (xW E ad iv ch rd tp rf (hdI shI aqI) nw tr gr dy im ++ (itsW (itF E aqI shI soI szI kmI bmI RI)))) := wI_pick ([xW E ad iv ch rd tp rf (hdI shI aqI) nw tr gr dy im, itsW (itF E aqI shI soI szI kmI bmI RI), [(q_69, .inr (6, [.null, .null, .null, .null, .null, .int 0, .int 0]))]]) [2, 0, 1] 3 rfl (by decide) hI
                refine kIV (n := 1) (As := [.int (-2)]) (rest := [.ref q_69]) (fun w => w ++ (xW E ad iv ch rd tp rf (hdI shI aqI) nw tr gr dy im ++ (itsW (itF E aqI shI soI szI kmI bmI RI)))) hxR hbR hmlR hts hown hK hA hl.1 (isCtx.suf _) hI (c6_init l E q_69 (-2)) q445 q94 q443 q444 rfl (by decide +kernel) rfl (Nat.le_of_ble_eq_true rfl) (Nat.le_of_ble_eq_true rfl) ⟨by omega, by omega⟩ (Nat.le_of_ble_eq_true rfl) dX0_toldIn_75 (fun u H locs hp hI hz => ?_)
                have hI : wI E AR sR H locs ([(q_69, .inr (6, [.null, .null, .null, .null, .null, .int 0, .int (-2)]))] ++ (xW E ad iv ch rd tp rf (hdI shI aqI) nw tr gr dy im ++ (itsW (itF E aqI shI soI szI kmI bmI RI)))) := hI
                refine vx_athrow hxR hbR dX0_toldIn_78 ?_
                obtain ⟨ce_78, hq1, hq2, hq3⟩ := wI_thrown hK hI (ci := 6) (nm := "ThreeStrangers$Refused") rfl rfl (q0 := 0) (he_l rfl)
                have hI : wI E AR sR _ _ (xW E ad iv ch rd tp rf (hdI shI aqI) nw tr gr dy im ++ (itsW (itF E aqI shI soI szI kmI bmI RI) ++ ([(q_69, .inr (6, [.null, .null, .null, .null, .null, .int 0, .int (-2)]))]))) := wI_pick ([[(q_69, .inr (6, [.null, .null, .null, .null, .null, .int 0, .int (-2)]))], xW E ad iv ch rd tp rf (hdI shI aqI) nw tr gr dy im, itsW (itF E aqI shI soI szI kmI bmI RI)]) [1, 2, 0] 3 rfl (by decide) hI
                have hI := wI_w (ws' := xW E ad iv ch rd tp rf (hdI shI aqI) nw tr gr dy im ++ (itsW (itF E aqI shI soI szI kmI bmI RI) ++ ([(q_69, .inr (6, [.null, .null, .null, .null, .null, .int 0, .int (noDayV shI szI (nI P) (nI N))]))]))) (by rw [show noDayV shI szI (nI P) (nI N) = (-2) from (noDay_few hP hN c_h hzn9 hzn (by have := mt (vpin_i (n := zn) (i := nI j) (by omega)).mpr hout_54; rw [nI_toInt (by omega)] at this; omega))]) hI
                exact hthr () _ _ _ _ _ _ _ _ _ _ hq1 hq2 hq3 hI ⟨rfl, (by rw [(noDay_few hP hN c_h hzn9 hzn (by have := mt (vpin_i (n := zn) (i := nI j) (by omega)).mpr hout_54; rw [nI_toInt (by omega)] at this; omega))]; decide)⟩ (by omega) (by omega) (List.forall_mem_cons.mpr ⟨Or.inl (by decide), (fun z hz => absurd hz List.not_mem_nil)⟩)
              · skip
                have hI : wI E AR sR H locs (xW E ad iv ch rd tp rf (hdI shI aqI) nw tr gr dy im ++ (rowW E (aqI P) zo zn (RI P) ++ (laW E q_34 N tf ++ (itsX (itF E aqI shI soI szI kmI bmI RI) P)))) := hI
                have hp : r_54 = (RI P) (nI j).toNatClampNeg ∧ vp_in (nI j) zn := hp
                obtain ⟨rfl, hin_54⟩ := hp
                refine lv_asl (y := RI P j) (by rw [nI_clamp (n := j) (by omega)]) ?_
                refine r_last (ws1 := xW E ad iv ch rd tp rf (hdI shI aqI) nw tr gr dy im ++ (rowW E (aqI P) zo zn (RI P) ++ (laW E q_34 N (va_up tf j (RI P j)) ++ (itsX (itF E aqI shI soI szI kmI bmI RI) P)))) hxR hbR hK hI (14 + (1 + 0)) (n := N) (J := j) (f := tf) (he_r (Nat.le_of_ble_eq_true rfl) (Nat.le_of_ble_eq_true rfl) (he_r (Nat.le_of_ble_eq_true rfl) (Nat.le_of_ble_eq_true rfl) (he_l rfl))) (by omega) (by omega) (hw_r (Nat.le_of_ble_eq_true rfl) (Nat.le_of_ble_eq_true rfl) (hw_r (Nat.le_of_ble_eq_true rfl) (Nat.le_of_ble_eq_true rfl) (hw_l (Nat.le_of_ble_eq_true rfl) rfl))) dX0_toldIn_57 (fun H locs hI => ?_)
                refine lv_iinc (v := nI (j + 1)) (lv' := [(5, .int (nI (j + 1))), (0, .ref (ad 11)), (1, .int (nI P)), (2, .int (nI N)), (3, .ref (aqI P)), (4, .ref q_34)]) hxR hbR dX0_toldIn_58 hl (k := 5) rfl (show nI j + 1 = nI (j + 1) from nI_add _ 1) (by decide) rfl (fun ls hl => ?_)
                refine lv_goto (tgt := 41) hxR hbR dX0_toldIn_61 (by decide) ?_
                exact ih_41 (j + 1) (va_up tf j (RI P j)) (cc + 3) (zz + 222) (by first | omega | with_reducible assumption) (by have := (vpin_i (n := zn) (i := nI j) (by omega)).mp hin_54; rw [nI_toInt (by omega)] at this; omega) (up_l1 htf) (by first | omega | with_reducible assumption) (by first | omega | with_reducible assumption) (by omega) _ _ hI _ (lv_sub hl [1, 2, 3, 4, 5, 0] rfl)
        exact lp_41 _ 0 (fun _ => 0) (0 + 1 + 1) (0 + 7 + N) (by first | omega | with_reducible assumption) (by first | omega | with_reducible assumption) (fun i h => absurd h (Nat.not_lt_zero _)) (by first | omega | with_reducible assumption) (by first | omega | with_reducible assumption) (Nat.lt_succ_self _) _ _ hI _ (lv_sub hl [3, 4, 5, 2, 1, 0] rfl)
    · skip
      have c_11 : ¬ (Int32.toInt 0 ≤ Int32.toInt k ∧ Int32.toInt k ≤ Int32.toInt 7) := of_decide_eq_false c_11
      have c_11 : ¬ (0 ≤ k.toInt ∧ k.toInt ≤ 7) := by exact c_11
      refine lv_if_ne (tgt := 27) hxR hbR dX0_toldIn_14 (by decide) (fun c => absurd c (by decide)) (fun _ => ?_)
      refine r_new (fs := [.null, .null, .null, .null, .null, .int 0, .int 0]) hxR hbR hts hown hA hK hI okX6 (ci := 6) rfl q410 q435 q94 (by decide +kernel) (Nat.le_of_ble_eq_true rfl) (Nat.le_of_ble_eq_true rfl) dX0_toldIn_17 (fun q_17 H hI => ?_)
      have hI := wI_w app2.symm hI
      have hI : wI E AR sR H _ (xW E ad iv ch rd tp rf (hdI shI aqI) nw tr gr dy im ++ (itsW (itF E aqI shI soI szI kmI bmI RI) ++ ([(q_17, .inr (6, [.null, .null, .null, .null, .null, .int 0, .int 0]))]))) := hI
      refine lv_dup hxR hbR dX0_toldIn_20 rfl ?_
      refine lv_bipush (v := (-2)) hxR hbR dX0_toldIn_21 (by decide) ?_
      have hI : wI E AR sR _ _ ([(q_17, .inr (6, [.null, .null, .null, .null, .null, .int 0, .int 0]))] ++ (xW E ad iv ch rd tp rf (hdI shI aqI) nw tr gr dy im ++ (itsW (itF E aqI shI soI szI kmI bmI RI)))) := wI_pick ([xW E ad iv ch rd tp rf (hdI shI aqI) nw tr gr dy im, itsW (itF E aqI shI soI szI kmI bmI RI), [(q_17, .inr (6, [.null, .null, .null, .null, .null, .int 0, .int 0]))]]) [2, 0, 1] 3 rfl (by decide) hI
      refine kIV (n := 1) (As := [.int (-2)]) (rest := [.ref q_17]) (fun w => w ++ (xW E ad iv ch rd tp rf (hdI shI aqI) nw tr gr dy im ++ (itsW (itF E aqI shI soI szI kmI bmI RI)))) hxR hbR hmlR hts hown hK hA hl.1 (isCtx.suf _) hI (c6_init l E q_17 (-2)) q445 q94 q443 q444 rfl (by decide +kernel) rfl (Nat.le_of_ble_eq_true rfl) (Nat.le_of_ble_eq_true rfl) ⟨Nat.le_of_ble_eq_true rfl, Nat.le_of_ble_eq_true rfl⟩ (Nat.le_of_ble_eq_true rfl) dX0_toldIn_23 (fun u H locs hp hI hz => ?_)
      have hI : wI E AR sR H locs ([(q_17, .inr (6, [.null, .null, .null, .null, .null, .int 0, .int (-2)]))] ++ (xW E ad iv ch rd tp rf (hdI shI aqI) nw tr gr dy im ++ (itsW (itF E aqI shI soI szI kmI bmI RI)))) := hI
      refine vx_athrow hxR hbR dX0_toldIn_26 ?_
      obtain ⟨ce_26, hq1, hq2, hq3⟩ := wI_thrown hK hI (ci := 6) (nm := "ThreeStrangers$Refused") rfl rfl (q0 := 0) (he_l rfl)
      have hI : wI E AR sR _ _ (xW E ad iv ch rd tp rf (hdI shI aqI) nw tr gr dy im ++ (itsW (itF E aqI shI soI szI kmI bmI RI) ++ ([(q_17, .inr (6, [.null, .null, .null, .null, .null, .int 0, .int (-2)]))]))) := wI_pick ([[(q_17, .inr (6, [.null, .null, .null, .null, .null, .int 0, .int (-2)]))], xW E ad iv ch rd tp rf (hdI shI aqI) nw tr gr dy im, itsW (itF E aqI shI soI szI kmI bmI RI)]) [1, 2, 0] 3 rfl (by decide) hI
      have hI := wI_w (ws' := xW E ad iv ch rd tp rf (hdI shI aqI) nw tr gr dy im ++ (itsW (itF E aqI shI soI szI kmI bmI RI) ++ ([(q_17, .inr (6, [.null, .null, .null, .null, .null, .int 0, .int (noDayV shI szI (nI P) k)]))]))) (by rw [show noDayV shI szI (nI P) k = (-2) from (noDay_bad (fun z => c_11 z.2))]) hI
      exact hthr () _ _ _ _ _ _ _ _ _ _ hq1 hq2 hq3 hI ⟨rfl, (by rw [(noDay_bad (fun z => c_11 z.2))]; decide)⟩ (by omega) (by omega) (List.forall_mem_cons.mpr ⟨Or.inl (by decide), (fun z hz => absurd hz List.not_mem_nil)⟩)
  · skip
    have c_1 : ¬ (0 ≤ Int32.toInt x ∧ Int32.toInt x ≤ 7) := of_decide_eq_false c_1
    refine lv_if_eq (tgt := 17) hxR hbR dX0_toldIn_4 (by decide) (fun _ => ?_) (fun c => absurd c (by decide))
    refine r_new (fs := [.null, .null, .null, .null, .null, .int 0, .int 0]) hxR hbR hts hown hA hK hI okX6 (ci := 6) rfl q410 q435 q94 (by decide +kernel) (Nat.le_of_ble_eq_true rfl) (Nat.le_of_ble_eq_true rfl) dX0_toldIn_17 (fun q_17 H hI => ?_)
    have hI := wI_w app2.symm hI
    have hI : wI E AR sR H _ (xW E ad iv ch rd tp rf (hdI shI aqI) nw tr gr dy im ++ (itsW (itF E aqI shI soI szI kmI bmI RI) ++ ([(q_17, .inr (6, [.null, .null, .null, .null, .null, .int 0, .int 0]))]))) := hI
    refine lv_dup hxR hbR dX0_toldIn_20 rfl ?_
    refine lv_bipush (v := (-2)) hxR hbR dX0_toldIn_21 (by decide) ?_
    have hI : wI E AR sR _ _ ([(q_17, .inr (6, [.null, .null, .null, .null, .null, .int 0, .int 0]))] ++ (xW E ad iv ch rd tp rf (hdI shI aqI) nw tr gr dy im ++ (itsW (itF E aqI shI soI szI kmI bmI RI)))) := wI_pick ([xW E ad iv ch rd tp rf (hdI shI aqI) nw tr gr dy im, itsW (itF E aqI shI soI szI kmI bmI RI), [(q_17, .inr (6, [.null, .null, .null, .null, .null, .int 0, .int 0]))]]) [2, 0, 1] 3 rfl (by decide) hI
    refine kIV (n := 1) (As := [.int (-2)]) (rest := [.ref q_17]) (fun w => w ++ (xW E ad iv ch rd tp rf (hdI shI aqI) nw tr gr dy im ++ (itsW (itF E aqI shI soI szI kmI bmI RI)))) hxR hbR hmlR hts hown hK hA hl.1 (isCtx.suf _) hI (c6_init l E q_17 (-2)) q445 q94 q443 q444 rfl (by decide +kernel) rfl (Nat.le_of_ble_eq_true rfl) (Nat.le_of_ble_eq_true rfl) ⟨Nat.le_of_ble_eq_true rfl, Nat.le_of_ble_eq_true rfl⟩ (Nat.le_of_ble_eq_true rfl) dX0_toldIn_23 (fun u H locs hp hI hz => ?_)
    have hI : wI E AR sR H locs ([(q_17, .inr (6, [.null, .null, .null, .null, .null, .int 0, .int (-2)]))] ++ (xW E ad iv ch rd tp rf (hdI shI aqI) nw tr gr dy im ++ (itsW (itF E aqI shI soI szI kmI bmI RI)))) := hI
    refine vx_athrow hxR hbR dX0_toldIn_26 ?_
    obtain ⟨ce_26, hq1, hq2, hq3⟩ := wI_thrown hK hI (ci := 6) (nm := "ThreeStrangers$Refused") rfl rfl (q0 := 0) (he_l rfl)
    have hI : wI E AR sR _ _ (xW E ad iv ch rd tp rf (hdI shI aqI) nw tr gr dy im ++ (itsW (itF E aqI shI soI szI kmI bmI RI) ++ ([(q_17, .inr (6, [.null, .null, .null, .null, .null, .int 0, .int (-2)]))]))) := wI_pick ([[(q_17, .inr (6, [.null, .null, .null, .null, .null, .int 0, .int (-2)]))], xW E ad iv ch rd tp rf (hdI shI aqI) nw tr gr dy im, itsW (itF E aqI shI soI szI kmI bmI RI)]) [1, 2, 0] 3 rfl (by decide) hI
    have hI := wI_w (ws' := xW E ad iv ch rd tp rf (hdI shI aqI) nw tr gr dy im ++ (itsW (itF E aqI shI soI szI kmI bmI RI) ++ ([(q_17, .inr (6, [.null, .null, .null, .null, .null, .int 0, .int (noDayV shI szI x k)]))]))) (by rw [show noDayV shI szI x k = (-2) from (noDay_bad (fun z => c_1 z.1))]) hI
    exact hthr () _ _ _ _ _ _ _ _ _ _ hq1 hq2 hq3 hI ⟨rfl, (by rw [(noDay_bad (fun z => c_1 z.1))]; decide)⟩ (by omega) (by omega) (List.forall_mem_cons.mpr ⟨Or.inl (by decide), (fun z hz => absurd hz List.not_mem_nil)⟩)
