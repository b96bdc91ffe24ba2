theorem vpin_i {i : Int32} {n : Nat} (hn : n < 100) : vp_in i n ↔ 0 ≤ i.toInt ∧ i.toInt ≤ (n : Int) - 1 := by
  unfold vp_in
  have h1 : i < 0 ↔ i.toInt < 0 := by rw [Int32.lt_iff_toInt_lt]; rfl
  have h2 : i.toNatClampNeg = i.toInt.toNat := rfl
  rw [h1, h2]
  omega

theorem c0_made_1 (l : Launch) (E : En)  (a : Int32)  : CtR l E yX0_made cX0_made 2 (Jvm.ClassFile.FieldType.object "ThreeStrangers$Coachman") 4 1 1 [.int 1, .int a] (([] : va_W)) (fun (u : Unit) => True) (fun (u : Unit) (q : Nat) => manW E q 1 a) := by
  refine CtR.of (by decide +kernel) (Nat.le_of_ble_eq_true rfl) (by first | exact Or.inl ⟨_, rfl⟩ | exact Or.inr ⟨_, rfl⟩) ?_
  intro pR eR sR mR aR bR tR cR AR ls QR hxR hbR hmlR hts hown hlk hnm hA hK hI hl hret
  have hl : lv_has ls 2 [(0, .int 1), (1, .int a)] := hl
  refine lv_iload_n hxR hbR dX0_made_0 rfl (lv_at hl 0 rfl) ?_
  refine lv_tableIn (tgt := 32) hxR hbR dX0_made_1 (by decide) (by decide) rfl (by decide) ?_
  refine r_new (fs := [.int 0]) hxR hbR hts hown hA hK hI okX8 (ci := 7) rfl q556 q557 q99 (by decide +kernel) (Nat.le_of_ble_eq_true rfl) (Nat.le_of_ble_eq_true rfl) dX0_made_32 (fun q_32 H hI => ?_)
  have hI : wI E AR sR H _ (manW E q_32 1 0) := hI
  refine lv_dup hxR hbR dX0_made_35 rfl ?_
  refine lv_iload_n hxR hbR dX0_made_36 rfl (lv_at hl 1 rfl) ?_
  refine kIV (n := 1) (As := [.int a]) (rest := [.ref q_32]) (fun w => w) hxR hbR hmlR hts hown hK hA hl.1 isCtx.id hI (c8_init l E q_32 1 0 a (by decide) (by decide)) q560 q99 q558 q559 rfl (by decide +kernel) rfl (Nat.le_of_ble_eq_true rfl) (Nat.le_of_ble_eq_true rfl) ⟨Nat.le_of_ble_eq_true rfl, Nat.le_of_ble_eq_true rfl⟩ (Nat.le_of_ble_eq_true rfl) dX0_made_37 (fun u H locs hp hI hz => ?_)
  have hI : wI E AR sR H locs (manW E q_32 1 a) := hI
  exact hret () q_32 _ _ _ _ _ _ dX0_made_40 hI (by first | rfl | trivial | assumption | simp_all) (Nat.le_of_ble_eq_true rfl) (Nat.le_of_ble_eq_true rfl)

theorem c0_made_2 (l : Launch) (E : En)  (a : Int32)  : CtR l E yX0_made cX0_made 2 (Jvm.ClassFile.FieldType.object "ThreeStrangers$Coachman") 4 1 1 [.int 2, .int a] (([] : va_W)) (fun (u : Unit) => True) (fun (u : Unit) (q : Nat) => manW E q 2 a) := by
  refine CtR.of (by decide +kernel) (Nat.le_of_ble_eq_true rfl) (by first | exact Or.inl ⟨_, rfl⟩ | exact Or.inr ⟨_, rfl⟩) ?_
  intro pR eR sR mR aR bR tR cR AR ls QR hxR hbR hmlR hts hown hlk hnm hA hK hI hl hret
  have hl : lv_has ls 2 [(0, .int 2), (1, .int a)] := hl
  refine lv_iload_n hxR hbR dX0_made_0 rfl (lv_at hl 0 rfl) ?_
  refine lv_tableIn (tgt := 41) hxR hbR dX0_made_1 (by decide) (by decide) rfl (by decide) ?_
  refine r_new (fs := [.int 0]) hxR hbR hts hown hA hK hI okX9 (ci := 8) rfl q572 q573 q100 (by decide +kernel) (Nat.le_of_ble_eq_true rfl) (Nat.le_of_ble_eq_true rfl) dX0_made_41 (fun q_41 H hI => ?_)
  have hI : wI E AR sR H _ (manW E q_41 2 0) := hI
  refine lv_dup hxR hbR dX0_made_44 rfl ?_
  refine lv_iload_n hxR hbR dX0_made_45 rfl (lv_at hl 1 rfl) ?_
  refine kIV (n := 1) (As := [.int a]) (rest := [.ref q_41]) (fun w => w) hxR hbR hmlR hts hown hK hA hl.1 isCtx.id hI (c9_init l E q_41 2 0 a (by decide) (by decide)) q576 q100 q574 q575 rfl (by decide +kernel) rfl (Nat.le_of_ble_eq_true rfl) (Nat.le_of_ble_eq_true rfl) ⟨Nat.le_of_ble_eq_true rfl, Nat.le_of_ble_eq_true rfl⟩ (Nat.le_of_ble_eq_true rfl) dX0_made_46 (fun u H locs hp hI hz => ?_)
  have hI : wI E AR sR H locs (manW E q_41 2 a) := hI
  exact hret () q_41 _ _ _ _ _ _ dX0_made_49 hI (by first | rfl | trivial | assumption | simp_all) (Nat.le_of_ble_eq_true rfl) (Nat.le_of_ble_eq_true rfl)

theorem c0_made_3 (l : Launch) (E : En)  (a : Int32)  : CtR l E yX0_made cX0_made 2 (Jvm.ClassFile.FieldType.object "ThreeStrangers$Coachman") 4 1 1 [.int 3, .int a] (([] : va_W)) (fun (u : Unit) => True) (fun (u : Unit) (q : Nat) => manW E q 3 a) := by
  refine CtR.of (by decide +kernel) (Nat.le_of_ble_eq_true rfl) (by first | exact Or.inl ⟨_, rfl⟩ | exact Or.inr ⟨_, rfl⟩) ?_
  intro pR eR sR mR aR bR tR cR AR ls QR hxR hbR hmlR hts hown hlk hnm hA hK hI hl hret
  have hl : lv_has ls 2 [(0, .int 3), (1, .int a)] := hl
  refine lv_iload_n hxR hbR dX0_made_0 rfl (lv_at hl 0 rfl) ?_
  refine lv_tableIn (tgt := 50) hxR hbR dX0_made_1 (by decide) (by decide) rfl (by decide) ?_
  refine r_new (fs := [.int 0]) hxR hbR hts hown hA hK hI okX10 (ci := 9) rfl q580 q581 q101 (by decide +kernel) (Nat.le_of_ble_eq_true rfl) (Nat.le_of_ble_eq_true rfl) dX0_made_50 (fun q_50 H hI => ?_)
  have hI : wI E AR sR H _ (manW E q_50 3 0) := hI
  refine lv_dup hxR hbR dX0_made_53 rfl ?_
  refine lv_iload_n hxR hbR dX0_made_54 rfl (lv_at hl 1 rfl) ?_
  refine kIV (n := 1) (As := [.int a]) (rest := [.ref q_50]) (fun w => w) hxR hbR hmlR hts hown hK hA hl.1 isCtx.id hI (c10_init l E q_50 3 0 a (by decide) (by decide)) q584 q101 q582 q583 rfl (by decide +kernel) rfl (Nat.le_of_ble_eq_true rfl) (Nat.le_of_ble_eq_true rfl) ⟨Nat.le_of_ble_eq_true rfl, Nat.le_of_ble_eq_true rfl⟩ (Nat.le_of_ble_eq_true rfl) dX0_made_55 (fun u H locs hp hI hz => ?_)
  have hI : wI E AR sR H locs (manW E q_50 3 a) := hI
  exact hret () q_50 _ _ _ _ _ _ dX0_made_58 hI (by first | rfl | trivial | assumption | simp_all) (Nat.le_of_ble_eq_true rfl) (Nat.le_of_ble_eq_true rfl)

theorem c0_made_4 (l : Launch) (E : En)  (a : Int32)  : CtR l E yX0_made cX0_made 2 (Jvm.ClassFile.FieldType.object "ThreeStrangers$Coachman") 4 1 1 [.int 4, .int a] (([] : va_W)) (fun (u : Unit) => True) (fun (u : Unit) (q : Nat) => manW E q 4 a) := by
  refine CtR.of (by decide +kernel) (Nat.le_of_ble_eq_true rfl) (by first | exact Or.inl ⟨_, rfl⟩ | exact Or.inr ⟨_, rfl⟩) ?_
  intro pR eR sR mR aR bR tR cR AR ls QR hxR hbR hmlR hts hown hlk hnm hA hK hI hl hret
  have hl : lv_has ls 2 [(0, .int 4), (1, .int a)] := hl
  refine lv_iload_n hxR hbR dX0_made_0 rfl (lv_at hl 0 rfl) ?_
  refine lv_tableIn (tgt := 59) hxR hbR dX0_made_1 (by decide) (by decide) rfl (by decide) ?_
  refine r_new (fs := [.int 0]) hxR hbR hts hown hA hK hI okX11 (ci := 10) rfl q588 q589 q102 (by decide +kernel) (Nat.le_of_ble_eq_true rfl) (Nat.le_of_ble_eq_true rfl) dX0_made_59 (fun q_59 H hI => ?_)
  have hI : wI E AR sR H _ (manW E q_59 4 0) := hI
  refine lv_dup hxR hbR dX0_made_62 rfl ?_
  refine lv_iload_n hxR hbR dX0_made_63 rfl (lv_at hl 1 rfl) ?_
  refine kIV (n := 1) (As := [.int a]) (rest := [.ref q_59]) (fun w => w) hxR hbR hmlR hts hown hK hA hl.1 isCtx.id hI (c11_init l E q_59 4 0 a (by decide) (by decide)) q592 q102 q590 q591 rfl (by decide +kernel) rfl (Nat.le_of_ble_eq_true rfl) (Nat.le_of_ble_eq_true rfl) ⟨Nat.le_of_ble_eq_true rfl, Nat.le_of_ble_eq_true rfl⟩ (Nat.le_of_ble_eq_true rfl) dX0_made_64 (fun u H locs hp hI hz => ?_)
  have hI : wI E AR sR H locs (manW E q_59 4 a) := hI
  exact hret () q_59 _ _ _ _ _ _ dX0_made_67 hI (by first | rfl | trivial | assumption | simp_all) (Nat.le_of_ble_eq_true rfl) (Nat.le_of_ble_eq_true rfl)

theorem c0_made_5 (l : Launch) (E : En)  (a : Int32)  : CtR l E yX0_made cX0_made 2 (Jvm.ClassFile.FieldType.object "ThreeStrangers$Coachman") 4 1 1 [.int 5, .int a] (([] : va_W)) (fun (u : Unit) => True) (fun (u : Unit) (q : Nat) => manW E q 5 a) := by
  refine CtR.of (by decide +kernel) (Nat.le_of_ble_eq_true rfl) (by first | exact Or.inl ⟨_, rfl⟩ | exact Or.inr ⟨_, rfl⟩) ?_
  intro pR eR sR mR aR bR tR cR AR ls QR hxR hbR hmlR hts hown hlk hnm hA hK hI hl hret
  have hl : lv_has ls 2 [(0, .int 5), (1, .int a)] := hl
  refine lv_iload_n hxR hbR dX0_made_0 rfl (lv_at hl 0 rfl) ?_
  refine lv_tableOut (tgt := 68) hxR hbR dX0_made_1 (by decide) (by decide) ?_
  refine r_new (fs := [.int 0]) hxR hbR hts hown hA hK hI okX12 (ci := 11) rfl q596 q597 q103 (by decide +kernel) (Nat.le_of_ble_eq_true rfl) (Nat.le_of_ble_eq_true rfl) dX0_made_68 (fun q_68 H hI => ?_)
  have hI : wI E AR sR H _ (manW E q_68 5 0) := hI
  refine lv_dup hxR hbR dX0_made_71 rfl ?_
  refine lv_iload_n hxR hbR dX0_made_72 rfl (lv_at hl 1 rfl) ?_
  refine kIV (n := 1) (As := [.int a]) (rest := [.ref q_68]) (fun w => w) hxR hbR hmlR hts hown hK hA hl.1 isCtx.id hI (c12_init l E q_68 5 0 a (by decide) (by decide)) q600 q103 q598 q599 rfl (by decide +kernel) rfl (Nat.le_of_ble_eq_true rfl) (Nat.le_of_ble_eq_true rfl) ⟨Nat.le_of_ble_eq_true rfl, Nat.le_of_ble_eq_true rfl⟩ (Nat.le_of_ble_eq_true rfl) dX0_made_73 (fun u H locs hp hI hz => ?_)
  have hI : wI E AR sR H locs (manW E q_68 5 a) := hI
  exact hret () q_68 _ _ _ _ _ _ dX0_made_76 hI (by first | rfl | trivial | assumption | simp_all) (Nat.le_of_ble_eq_true rfl) (Nat.le_of_ble_eq_true rfl)

theorem c0_made (l : Launch) (E : En)  (k : Nat) (a : Int32) (hk1 : 1 ≤ k) (hk5 : k ≤ 5) : CtR l E yX0_made cX0_made 2 (Jvm.ClassFile.FieldType.object "ThreeStrangers$Coachman") 4 1 1 [.int (nI k), .int a] (([] : va_W)) (fun (u : Unit) => True) (fun (u : Unit) (q : Nat) => manW E q k a) := by
  rcases k with _ | _ | _ | _ | _ | _ | k9
  · omega
  · exact c0_made_1 l E a
  · exact c0_made_2 l E a
  · exact c0_made_3 l E a
  · exact c0_made_4 l E a
  · exact c0_made_5 l E a
  · omega

theorem c0_row (l : Launch) (E : En) (ad : Nat → Nat) (iv : Nat → Int32) (ch : Nat → Int32) (rd : Nat → Int32) (tp : Nat → Int32) (rf : Nat → Int32) (nw : Nat) (tr : Nat) (gr : Nat) (dy : Nat) (im : Option Nat) (aqI : Nat → Nat) (shI : Nat → Int32) (soI : Nat → Int32) (szI : Nat → Int32) (kmI : Nat → Int32) (bmI : Nat → Int32) (RI : Nat → Nat → Int64) (x y z : Int32) (hlt : l.stackTraces = false)  : XtI l E yX0_row (wsW_ yX0_row cX0_row 5 (some FieldType.int) [(29, 43, 46, 107)]) 106 3 54 [.ref (ad 11), .int x, .int y, .int z] (xW E ad iv ch rd tp rf (hdI shI aqI) nw tr gr dy im ++ (itsW (itF E aqI shI soI szI kmI bmI RI))) (fun (r : Int32) (u : (Nat → Nat)) => r = gd (rowC x y z) 1 (rowC x y z)) (fun (u : (Nat → Nat)) => xW E ad iv ch rd tp (bumpR rf (rowC x y z)) (hdI (gd (rowC x y z) (va_up shI x.toNatClampNeg 1) shI) u) nw tr gr dy im ++ (itsW (itF E u (gd (rowC x y z) (va_up shI x.toNatClampNeg 1) shI) (gd (rowC x y z) (va_up soI x.toNatClampNeg y) soI) (gd (rowC x y z) (va_up szI x.toNatClampNeg z) szI) kmI bmI (gd (rowC x y z) (va_up RI x.toNatClampNeg (fun _ => 0)) RI)))) (fun (_ : String) (_ : Unit) => False) (fun (_ : Unit) (_ : Nat) => []) := by
  refine XtI.ofH (by decide +kernel) (Nat.le_of_ble_eq_true rfl) ?_
  intro pR eR sR mR aR bR tR cR AR ls QR hxR hbR hmlR hts hown hlk hnm hA hK hI hl htab hret hthr
  have hl : lv_has ls 5 [(0, .ref (ad 11)), (1, .int x), (2, .int y), (3, .int z)] := hl
  refine lv_iload_n hxR hbR dX0_row_0 rfl (lv_at hl 1 rfl) ?_
  refine kSI (n := 1) (As := [.int x]) (rest := []) (fun w => w ++ (xW E ad iv ch rd tp rf (hdI shI aqI) nw tr gr dy im ++ (itsW (itF E aqI shI soI szI kmI bmI RI)))) hxR hbR hmlR hts hown hK hA hl.1 (isCtx.suf _) hI (c0_isShelf l E  x ) (lw_S q390 q391 q81 q392) (by decide +kernel) rfl (Nat.le_of_ble_eq_true rfl) (Nat.le_of_ble_eq_true rfl) ⟨Nat.le_of_ble_eq_true rfl, Nat.le_of_ble_eq_true rfl⟩ (Nat.le_of_ble_eq_true rfl) dX0_row_1 (fun r_1 u H locs hp hI hz => ?_)
  have hI : wI E AR sR H locs (xW E ad iv ch rd tp rf (hdI shI aqI) nw tr gr dy im ++ (itsW (itF E aqI shI soI szI kmI bmI RI))) := hI
  have hp : r_1 = b2i (decide (0 ≤ x.toInt ∧ x.toInt ≤ 7)) := hp
  have hr_1 := hp
  rcases b2i_cases hr_1 with ⟨c_1, rfl⟩ | ⟨c_1, rfl⟩
  · skip
    have c_1 : 0 ≤ Int32.toInt x ∧ Int32.toInt x ≤ 7 := of_decide_eq_true c_1
    obtain ⟨P, hP, rfl⟩ := nat7 c_1
    have tP : (nI P).toInt = (P : Int) := nI_toInt (by omega)
    refine lv_if_eq (tgt := 22) hxR hbR dX0_row_4 (by decide) (fun c => absurd c (by decide)) (fun _ => ?_)
    refine lv_iload_n hxR hbR dX0_row_7 rfl (lv_at hl 2 rfl) ?_
    refine lv_if_lt (tgt := 22) hxR hbR dX0_row_8 (by decide) (fun c_8 => ?_) (fun c_8 => ?_)
    · skip
      have i_8 : y.toInt < 0 := by have zz := i_lt.mp c_8; exact zz
      refine lv_aload_n hxR hbR dX0_row_22 rfl (lv_at hl 0 rfl) ?_
      refine lv_bipush (v := (-2)) hxR hbR dX0_row_23 (by decide) ?_
      refine kVI (n := 1) (As := [.int (-2)]) (rest := []) (fun w => w ++ (itsW (itF E aqI shI soI szI kmI bmI RI))) hxR hbR hmlR hts hown hK hA hl.1 (isCtx.suf _) hI (c0_no l E ad iv ch rd tp rf (hdI shI aqI) nw tr gr dy im (-2) 2 (by decide) (by decide)) (lw_V q396 q398 qs2 q81 q399) ⟨rfl, by decide +kernel⟩ 8 0 rfl rfl xW_o rfl (Nat.le_of_ble_eq_true rfl) (Nat.le_of_ble_eq_true rfl) ⟨Nat.le_of_ble_eq_true rfl, Nat.le_of_ble_eq_true rfl⟩ (Nat.le_of_ble_eq_true rfl) dX0_row_25 (fun r_25 u H locs hp hI hz => ?_)
      have hI : wI E AR sR H locs (xW E ad iv ch rd tp (va_up rf 2 (rf 2 + 1)) (hdI shI aqI) nw tr gr dy im ++ (itsW (itF E aqI shI soI szI kmI bmI RI))) := hI
      have hp : r_25 = (-2) := hp
      have hr_25 := hp
      subst hr_25
      have hC : rowC (nI P) y z = (-2) := by
        clear hret hI
        unfold rowC
        try simp only [nI_clamp (n := P) (by omega)]
        repeat' split
        all_goals first | rfl | (exfalso; omega) | contradiction | (exfalso; simp_all; done) | simp_all
      have erf : bumpR rf (rowC (nI P) y z) = va_up rf 2 (rf 2 + 1) := by rw [hC]; exact bump_2 _
      have ehd : hdI (gd (rowC (nI P) y z) (va_up shI (nI P).toNatClampNeg 1) shI) aqI = hdI shI aqI := by rw [hC]; first | rfl | (simp only [nI_clamp (n := P) (by omega)]; rfl) | (simp only [gd_0, nI_clamp (n := P) (by omega)]; split <;> first | rfl | contradiction) | (exfalso; omega)
      have eshI : gd (rowC (nI P) y z) (va_up shI (nI P).toNatClampNeg 1) shI = shI := by rw [hC]; first | rfl | (simp only [nI_clamp (n := P) (by omega)]; rfl) | (simp only [gd_0, nI_clamp (n := P) (by omega)]; split <;> first | rfl | contradiction) | (exfalso; omega)
      have esoI : gd (rowC (nI P) y z) (va_up soI (nI P).toNatClampNeg y) soI = soI := by rw [hC]; first | rfl | (simp only [nI_clamp (n := P) (by omega)]; rfl) | (simp only [gd_0, nI_clamp (n := P) (by omega)]; split <;> first | rfl | contradiction) | (exfalso; omega)
      have eszI : gd (rowC (nI P) y z) (va_up szI (nI P).toNatClampNeg z) szI = szI := by rw [hC]; first | rfl | (simp only [nI_clamp (n := P) (by omega)]; rfl) | (simp only [gd_0, nI_clamp (n := P) (by omega)]; split <;> first | rfl | contradiction) | (exfalso; omega)
      have eRI : gd (rowC (nI P) y z) (va_up RI (nI P).toNatClampNeg (fun _ => 0)) RI = RI := by rw [hC]; first | rfl | (simp only [nI_clamp (n := P) (by omega)]; rfl) | (simp only [gd_0, nI_clamp (n := P) (by omega)]; split <;> first | rfl | contradiction) | (exfalso; omega)
      have hI := wI_w (ws' := xW E ad iv ch rd tp (bumpR rf (rowC (nI P) y z)) (hdI (gd (rowC (nI P) y z) (va_up shI (nI P).toNatClampNeg 1) shI) aqI) nw tr gr dy im ++ (itsW (itF E aqI (gd (rowC (nI P) y z) (va_up shI (nI P).toNatClampNeg 1) shI) (gd (rowC (nI P) y z) (va_up soI (nI P).toNatClampNeg y) soI) (gd (rowC (nI P) y z) (va_up szI (nI P).toNatClampNeg z) szI) kmI bmI (gd (rowC (nI P) y z) (va_up RI (nI P).toNatClampNeg (fun _ => 0)) RI)))) (by rw [erf, ehd, eshI, esoI, eszI, eRI]; try rfl) hI
      exact hret aqI (-2) _ _ 0 0 _ _ dX0_row_28 hI (by show (-2) = gd (rowC (nI P) y z) 1 (rowC (nI P) y z); rw [hC]; first | rfl | (simp only [nI_clamp (n := P) (by omega)]; rfl) | (simp only [gd_0, nI_clamp (n := P) (by omega)]; split <;> first | rfl | contradiction)) (Nat.le_of_ble_eq_true rfl) (Nat.le_of_ble_eq_true rfl) rfl
    · skip
      have i_8 : ¬ (y.toInt < 0) := by have zz := mt i_lt.mpr c_8; exact zz
      refine lv_iload_n hxR hbR dX0_row_11 rfl (lv_at hl 2 rfl) ?_
      refine lv_iconst (v := 4) hxR hbR dX0_row_12 (by decide) ?_
      refine lv_icmp_gt (tgt := 22) hxR hbR dX0_row_13 (by decide) (fun c_13 => ?_) (fun c_13 => ?_)
      · skip
        have i_13 : 4 < y.toInt := by have zz := i_lt.mp c_13; exact zz
        refine lv_aload_n hxR hbR dX0_row_22 rfl (lv_at hl 0 rfl) ?_
        refine lv_bipush (v := (-2)) hxR hbR dX0_row_23 (by decide) ?_
        refine kVI (n := 1) (As := [.int (-2)]) (rest := []) (fun w => w ++ (itsW (itF E aqI shI soI szI kmI bmI RI))) hxR hbR hmlR hts hown hK hA hl.1 (isCtx.suf _) hI (c0_no l E ad iv ch rd tp rf (hdI shI aqI) nw tr gr dy im (-2) 2 (by decide) (by decide)) (lw_V q396 q398 qs2 q81 q399) ⟨rfl, by decide +kernel⟩ 8 0 rfl rfl xW_o rfl (Nat.le_of_ble_eq_true rfl) (Nat.le_of_ble_eq_true rfl) ⟨Nat.le_of_ble_eq_true rfl, Nat.le_of_ble_eq_true rfl⟩ (Nat.le_of_ble_eq_true rfl) dX0_row_25 (fun r_25 u H locs hp hI hz => ?_)
        have hI : wI E AR sR H locs (xW E ad iv ch rd tp (va_up rf 2 (rf 2 + 1)) (hdI shI aqI) nw tr gr dy im ++ (itsW (itF E aqI shI soI szI kmI bmI RI))) := hI
        have hp : r_25 = (-2) := hp
        have hr_25 := hp
        subst hr_25
        have hC : rowC (nI P) y z = (-2) := by
          clear hret hI
          unfold rowC
          try simp only [nI_clamp (n := P) (by omega)]
          repeat' split
          all_goals first | rfl | (exfalso; omega) | contradiction | (exfalso; simp_all; done) | simp_all
        have erf : bumpR rf (rowC (nI P) y z) = va_up rf 2 (rf 2 + 1) := by rw [hC]; exact bump_2 _
        have ehd : hdI (gd (rowC (nI P) y z) (va_up shI (nI P).toNatClampNeg 1) shI) aqI = hdI shI aqI := by rw [hC]; first | rfl | (simp only [nI_clamp (n := P) (by omega)]; rfl) | (simp only [gd_0, nI_clamp (n := P) (by omega)]; split <;> first | rfl | contradiction) | (exfalso; omega)
        have eshI : gd (rowC (nI P) y z) (va_up shI (nI P).toNatClampNeg 1) shI = shI := by rw [hC]; first | rfl | (simp only [nI_clamp (n := P) (by omega)]; rfl) | (simp only [gd_0, nI_clamp (n := P) (by omega)]; split <;> first | rfl | contradiction) | (exfalso; omega)
        have esoI : gd (rowC (nI P) y z) (va_up soI (nI P).toNatClampNeg y) soI = soI := by rw [hC]; first | rfl | (simp only [nI_clamp (n := P) (by omega)]; rfl) | (simp only [gd_0, nI_clamp (n := P) (by omega)]; split <;> first | rfl | contradiction) | (exfalso; omega)
        have eszI : gd (rowC (nI P) y z) (va_up szI (nI P).toNatClampNeg z) szI = szI := by rw [hC]; first | rfl | (simp only [nI_clamp (n := P) (by omega)]; rfl) | (simp only [gd_0, nI_clamp (n := P) (by omega)]; split <;> first | rfl | contradiction) | (exfalso; omega)
        have eRI : gd (rowC (nI P) y z) (va_up RI (nI P).toNatClampNeg (fun _ => 0)) RI = RI := by rw [hC]; first | rfl | (simp only [nI_clamp (n := P) (by omega)]; rfl) | (simp only [gd_0, nI_clamp (n := P) (by omega)]; split <;> first | rfl | contradiction) | (exfalso; omega)
        have hI := wI_w (ws' := xW E ad iv ch rd tp (bumpR rf (rowC (nI P) y z)) (hdI (gd (rowC (nI P) y z) (va_up shI (nI P).toNatClampNeg 1) shI) aqI) nw tr gr dy im ++ (itsW (itF E aqI (gd (rowC (nI P) y z) (va_up shI (nI P).toNatClampNeg 1) shI) (gd (rowC (nI P) y z) (va_up soI (nI P).toNatClampNeg y) soI) (gd (rowC (nI P) y z) (va_up szI (nI P).toNatClampNeg z) szI) kmI bmI (gd (rowC (nI P) y z) (va_up RI (nI P).toNatClampNeg (fun _ => 0)) RI)))) (by rw [erf, ehd, eshI, esoI, eszI, eRI]; try rfl) hI
        exact hret aqI (-2) _ _ 0 0 _ _ dX0_row_28 hI (by show (-2) = gd (rowC (nI P) y z) 1 (rowC (nI P) y z); rw [hC]; first | rfl | (simp only [nI_clamp (n := P) (by omega)]; rfl) | (simp only [gd_0, nI_clamp (n := P) (by omega)]; split <;> first | rfl | contradiction)) (Nat.le_of_ble_eq_true rfl) (Nat.le_of_ble_eq_true rfl) rfl
      · skip
        have i_13 : ¬ (4 < y.toInt) := by have zz := mt i_lt.mpr c_13; exact zz
        obtain ⟨zs, hzs, rfl⟩ := nat_le_of (x := y) (m := 4) (by omega) (by omega)
        have tzs : (nI zs).toInt = (zs : Int) := nI_toInt (by omega)
        refine lv_iload_n hxR hbR dX0_row_16 rfl (lv_at hl 3 rfl) ?_
        refine lv_bipush (v := 40) hxR hbR dX0_row_17 (by decide) ?_
        refine lv_icmp_le (tgt := 29) hxR hbR dX0_row_19 (by decide) (fun c_19 => ?_) (fun c_19 => ?_)
        · skip
          have i_19 : z.toInt ≤ 40 := by have zz := i_le.mp c_19; exact zz
          refine lv_aload_n hxR hbR dX0_row_29 rfl (lv_at hl 0 rfl) ?_
          refine r_get hxR hbR hts hown hK hI okX0 (ci := 0) rfl 8 (he_l xW_o) 7 (by decide) q271 rfl (v := .ref (ad 7)) rfl dX0_row_30 ?_
          refine lv_iload_n hxR hbR dX0_row_33 rfl (lv_at hl 1 rfl) ?_
          refine r_aald hxR hbR hK hI 11 7 (r := ad (20 + P)) rfl rfl (n := 8) (J := P) (he_l rfl) hP (by decide) rfl dX0_row_34 ?_
          refine lv_iload_n hxR hbR dX0_row_35 rfl (lv_at hl 2 rfl) ?_
          refine lv_iload_n hxR hbR dX0_row_36 rfl (lv_at hl 3 rfl) ?_
          refine kSRX (n := 2) (As := [.int (nI zs), .int z]) (rest := [.ref (ad (20 + P))]) (fun w => w ++ (xW E ad iv ch rd tp rf (hdI shI aqI) nw tr gr dy im ++ (itsW (itF E aqI shI soI szI kmI bmI RI)))) hxR hbR hmlR hts hown hK hA hl.1 (isCtx.suf _) hI (c0_rowOf l E  zs z hlt hzs (by omega)) (lw_S q400 q401 q81 q402) (by decide +kernel) rfl (Nat.le_of_ble_eq_true rfl) (Nat.le_of_ble_eq_true rfl) ⟨by omega, by omega⟩ (Nat.le_of_ble_eq_true rfl) dX0_row_37 (fun En ce_37 q_37 u H locs hX hI hz hq1 hq2 hq3 => ?_) (fun r_37 u H locs hp hI hz => ?_)
          · skip
            have hI : wI E AR sR H locs (xW E ad iv ch rd tp rf (hdI shI aqI) nw tr gr dy im ++ (itsW (itF E aqI shI soI szI kmI bmI RI))) := hI
            have hX : En = "java/lang/NegativeArraySizeException" ∧ z < 0 := hX
            obtain ⟨rfl, hneg_37⟩ := hX
            refine r_catch 0 _ hown hts hK.xw htab rfl (fun z hz => absurd hz List.not_mem_nil) (by decide) (by decide) q302 q367 hq1 hq2 hq3 ?_
            refine W.eq (g2 := F0 mR 46 ls [.ref q_37]) rfl ?_
            refine lv_astore (lv' := [(4, .ref q_37), (0, .ref (ad 11)), (1, .int (nI P)), (2, .int (nI zs)), (3, .int z)]) hxR hbR dX0_row_46 hl (by decide) rfl (fun ls hl => ?_)
            refine lv_aload_n hxR hbR dX0_row_48 rfl (lv_at hl 1 rfl) ?_
            refine lv_bipush (v := (-2)) hxR hbR dX0_row_49 (by decide) ?_
            refine kVI (n := 1) (As := [.int (-2)]) (rest := []) (fun w => w ++ (itsW (itF E aqI shI soI szI kmI bmI RI))) hxR hbR hmlR hts hown hK hA hl.1 (isCtx.suf _) hI (c0_no l E ad iv ch rd tp rf (hdI shI aqI) nw tr gr dy im (-2) 2 (by decide) (by decide)) (lw_V q396 q398 qs2 q81 q399) ⟨rfl, by decide +kernel⟩ 8 0 rfl rfl xW_o rfl (Nat.le_of_ble_eq_true rfl) (Nat.le_of_ble_eq_true rfl) ⟨Nat.le_of_ble_eq_true rfl, Nat.le_of_ble_eq_true rfl⟩ (Nat.le_of_ble_eq_true rfl) dX0_row_51 (fun r_51 u H locs hp hI hz => ?_)
            have hI : wI E AR sR H locs (xW E ad iv ch rd tp (va_up rf 2 (rf 2 + 1)) (hdI shI aqI) nw tr gr dy im ++ (itsW (itF E aqI shI soI szI kmI bmI RI))) := hI
            have hp : r_51 = (-2) := hp
            have hr_51 := hp
            subst hr_51
            have hC : rowC (nI P) (nI zs) z = (-2) := by
              clear hret hI
              unfold rowC; refine if_neg (fun h => ?_); have h3 := h.2.2.1; have h4 := Int32.lt_iff_toInt_lt.mp hneg_37; rw [show (0 : Int32).toInt = 0 from rfl] at h4; omega
            have erf : bumpR rf (rowC (nI P) (nI zs) z) = va_up rf 2 (rf 2 + 1) := by rw [hC]; exact bump_2 _
            have ehd : hdI (gd (rowC (nI P) (nI zs) z) (va_up shI (nI P).toNatClampNeg 1) shI) aqI = hdI shI aqI := by rw [hC]; first | rfl | (simp only [nI_clamp (n := P) (by omega), nI_clamp (n := zs) (by omega)]; rfl) | (simp only [gd_0, nI_clamp (n := P) (by omega), nI_clamp (n := zs) (by omega)]; split <;> first | rfl | contradiction) | (exfalso; omega)
            have eshI : gd (rowC (nI P) (nI zs) z) (va_up shI (nI P).toNatClampNeg 1) shI = shI := by rw [hC]; first | rfl | (simp only [nI_clamp (n := P) (by omega), nI_clamp (n := zs) (by omega)]; rfl) | (simp only [gd_0, nI_clamp (n := P) (by omega), nI_clamp (n := zs) (by omega)]; split <;> first | rfl | contradiction) | (exfalso; omega)
            have esoI : gd (rowC (nI P) (nI zs) z) (va_up soI (nI P).toNatClampNeg (nI zs)) soI = soI := by rw [hC]; first | rfl | (simp only [nI_clamp (n := P) (by omega), nI_clamp (n := zs) (by omega)]; rfl) | (simp only [gd_0, nI_clamp (n := P) (by omega), nI_clamp (n := zs) (by omega)]; split <;> first | rfl | contradiction) | (exfalso; omega)
            have eszI : gd (rowC (nI P) (nI zs) z) (va_up szI (nI P).toNatClampNeg z) szI = szI := by rw [hC]; first | rfl | (simp only [nI_clamp (n := P) (by omega), nI_clamp (n := zs) (by omega)]; rfl) | (simp only [gd_0, nI_clamp (n := P) (by omega), nI_clamp (n := zs) (by omega)]; split <;> first | rfl | contradiction) | (exfalso; omega)
            have eRI : gd (rowC (nI P) (nI zs) z) (va_up RI (nI P).toNatClampNeg (fun _ => 0)) RI = RI := by rw [hC]; first | rfl | (simp only [nI_clamp (n := P) (by omega), nI_clamp (n := zs) (by omega)]; rfl) | (simp only [gd_0, nI_clamp (n := P) (by omega), nI_clamp (n := zs) (by omega)]; split <;> first | rfl | contradiction) | (exfalso; omega)
            have hI := wI_w (ws' := xW E ad iv ch rd tp (bumpR rf (rowC (nI P) (nI zs) z)) (hdI (gd (rowC (nI P) (nI zs) z) (va_up shI (nI P).toNatClampNeg 1) shI) aqI) nw tr gr dy im ++ (itsW (itF E aqI (gd (rowC (nI P) (nI zs) z) (va_up shI (nI P).toNatClampNeg 1) shI) (gd (rowC (nI P) (nI zs) z) (va_up soI (nI P).toNatClampNeg (nI zs)) soI) (gd (rowC (nI P) (nI zs) z) (va_up szI (nI P).toNatClampNeg z) szI) kmI bmI (gd (rowC (nI P) (nI zs) z) (va_up RI (nI P).toNatClampNeg (fun _ => 0)) RI)))) (by rw [erf, ehd, eshI, esoI, eszI, eRI]; try rfl) hI
            exact hret aqI (-2) _ _ (0 + 3) (0 + 54) _ _ dX0_row_54 hI (by show (-2) = gd (rowC (nI P) (nI zs) z) 1 (rowC (nI P) (nI zs) z); rw [hC]; first | rfl | (simp only [nI_clamp (n := P) (by omega), nI_clamp (n := zs) (by omega)]; rfl) | (simp only [gd_0, nI_clamp (n := P) (by omega), nI_clamp (n := zs) (by omega)]; split <;> first | rfl | contradiction)) (Nat.le_of_ble_eq_true rfl) (Nat.le_of_ble_eq_true rfl) rfl
          · skip
            have hI : wI E AR sR H locs (rowW E r_37 zs z.toNatClampNeg (fun _ => 0) ++ (xW E ad iv ch rd tp rf (hdI shI aqI) nw tr gr dy im ++ (itsW (itF E aqI shI soI szI kmI bmI RI)))) := hI
            have hI : wI E AR sR _ _ (xW E ad iv ch rd tp rf (hdI shI aqI) nw tr gr dy im ++ (rowW E r_37 zs z.toNatClampNeg (fun _ => 0) ++ (itsW (itF E aqI shI soI szI kmI bmI RI)))) := wI_pick ([rowW E r_37 zs z.toNatClampNeg (fun _ => 0), xW E ad iv ch rd tp rf (hdI shI aqI) nw tr gr dy im, itsW (itF E aqI shI soI szI kmI bmI RI)]) [1, 0, 2] 3 rfl (by decide) hI
            have hp : 0 ≤ z.toInt := hp
            have hpos_37 := hp
            obtain ⟨N, hN, rfl⟩ := (nat_le_of (m := 40) hpos_37 (by omega))
            have tN : (nI N).toInt = (N : Int) := nI_toInt (by omega)
            refine r_put (v := .ref r_37) (ws1 := xW E ad iv ch rd tp rf (va_up (hdI shI aqI) P (some r_37)) nw tr gr dy im ++ (rowW E r_37 zs ((nI N).toNatClampNeg) (fun _ => 0) ++ (itsW (itF E aqI shI soI szI kmI bmI RI)))) hxR hbR hts hown hK hI okX4 (ci := 4) rfl P (he_l (xW_s P hP)) 0 (by decide) q258 rfl rfl rfl rfl (Nat.le_of_ble_eq_true rfl) (hw_l (by show P < 14; omega) (xW_sr P hP)) dX0_row_40 (fun H locs hI => ?_)
            have hI := wI_w (ws' := xW E ad iv ch rd tp rf (va_up (hdI shI aqI) P (some r_37)) nw tr gr dy im ++ (rowW E r_37 zs N (fun _ => 0) ++ (itsW (itF E aqI shI soI szI kmI bmI RI)))) (by rw [nI_clamp (n := N) (by omega)]) hI
            have hI : wI E AR sR _ _ (itsW (itF E aqI shI soI szI kmI bmI RI) ++ (rowW E r_37 zs N (fun _ => 0) ++ (xW E ad iv ch rd tp rf (va_up (hdI shI aqI) P (some r_37)) nw tr gr dy im))) := wI_pick ([xW E ad iv ch rd tp rf (va_up (hdI shI aqI) P (some r_37)) nw tr gr dy im, rowW E r_37 zs N (fun _ => 0), itsW (itF E aqI shI soI szI kmI bmI RI)]) [2, 1, 0] 3 rfl (by decide) hI
            have hI := its_out (f := itF E aqI shI soI szI kmI bmI RI) hP rfl hI
            have hI := wI_dropL hI
            have hI : wI E AR sR _ _ (itsX (itF E aqI shI soI szI kmI bmI RI) P ++ (rowW E r_37 zs N (fun _ => 0) ++ (xW E ad iv ch rd tp rf (va_up (hdI shI aqI) P (some r_37)) nw tr gr dy im))) := hI
            have hI : wI E AR sR _ _ (rowW E r_37 zs N (fun _ => 0) ++ (itsX (itF E aqI shI soI szI kmI bmI RI) P ++ (xW E ad iv ch rd tp rf (va_up (hdI shI aqI) P (some r_37)) nw tr gr dy im))) := wI_pick ([itsX (itF E aqI shI soI szI kmI bmI RI) P, rowW E r_37 zs N (fun _ => 0), xW E ad iv ch rd tp rf (va_up (hdI shI aqI) P (some r_37)) nw tr gr dy im]) [1, 0, 2] 3 rfl (by decide) hI
            have hI := its_in (f := itF E aqI shI soI szI kmI bmI RI) (g := itF E (va_up aqI P r_37) (va_up shI P 1) (va_up soI P (nI zs)) (va_up szI P (nI N)) kmI bmI (va_up RI P (fun _ => 0))) hP (fun j hj => by simp only [itF, va_up_n hj]) ((itF_row va_up_s va_up_s va_up_s (by omega) (by omega)).trans (by rw [va_up_s, va_up_s])) hI
            have hI : wI E AR sR _ _ (itsW (itF E (va_up aqI P r_37) (va_up shI P 1) (va_up soI P (nI zs)) (va_up szI P (nI N)) kmI bmI (va_up RI P (fun _ => 0))) ++ (xW E ad iv ch rd tp rf (va_up (hdI shI aqI) P (some r_37)) nw tr gr dy im)) := hI
            have hI : wI E AR sR _ _ (xW E ad iv ch rd tp rf (va_up (hdI shI aqI) P (some r_37)) nw tr gr dy im ++ (itsW (itF E (va_up aqI P r_37) (va_up shI P 1) (va_up soI P (nI zs)) (va_up szI P (nI N)) kmI bmI (va_up RI P (fun _ => 0))))) := wI_pick ([itsW (itF E (va_up aqI P r_37) (va_up shI P 1) (va_up soI P (nI zs)) (va_up szI P (nI N)) kmI bmI (va_up RI P (fun _ => 0))), xW E ad iv ch rd tp rf (va_up (hdI shI aqI) P (some r_37)) nw tr gr dy im]) [1, 0] 2 rfl (by decide) hI
            have hI := wI_w (ws' := xW E ad iv ch rd tp rf (hdI (va_up shI P 1) (va_up aqI P r_37)) nw tr gr dy im ++ (itsW (itF E (va_up aqI P r_37) (va_up shI P 1) (va_up soI P (nI zs)) (va_up szI P (nI N)) kmI bmI (va_up RI P (fun _ => 0))))) (by rw [hdI_up (Or.inl rfl)]) hI
            refine lv_goto (tgt := 55) hxR hbR dX0_row_43 (by decide) ?_
            refine lv_iconst (v := 1) hxR hbR dX0_row_55 (by decide) ?_
            have hC : rowC (nI P) (nI zs) (nI N) = 0 := by
              clear hret hI
              unfold rowC
              try simp only [nI_clamp (n := P) (by omega), nI_clamp (n := zs) (by omega), nI_clamp (n := N) (by omega)]
              repeat' split
              all_goals first | rfl | (exfalso; omega) | contradiction | (exfalso; simp_all; done) | simp_all
            have erf : bumpR rf (rowC (nI P) (nI zs) (nI N)) = rf := by rw [hC]; exact bump_0 _
            have ehd : hdI (gd (rowC (nI P) (nI zs) (nI N)) (va_up shI (nI P).toNatClampNeg 1) shI) (va_up aqI P r_37) = hdI (va_up shI P 1) (va_up aqI P r_37) := by rw [hC]; first | rfl | (simp only [nI_clamp (n := P) (by omega), nI_clamp (n := zs) (by omega), nI_clamp (n := N) (by omega)]; rfl) | (simp only [gd_0, nI_clamp (n := P) (by omega), nI_clamp (n := zs) (by omega), nI_clamp (n := N) (by omega)]; split <;> first | rfl | contradiction) | (exfalso; omega)
            have eshI : gd (rowC (nI P) (nI zs) (nI N)) (va_up shI (nI P).toNatClampNeg 1) shI = va_up shI P 1 := by rw [hC]; first | rfl | (simp only [nI_clamp (n := P) (by omega), nI_clamp (n := zs) (by omega), nI_clamp (n := N) (by omega)]; rfl) | (simp only [gd_0, nI_clamp (n := P) (by omega), nI_clamp (n := zs) (by omega), nI_clamp (n := N) (by omega)]; split <;> first | rfl | contradiction) | (exfalso; omega)
            have esoI : gd (rowC (nI P) (nI zs) (nI N)) (va_up soI (nI P).toNatClampNeg (nI zs)) soI = va_up soI P (nI zs) := by rw [hC]; first | rfl | (simp only [nI_clamp (n := P) (by omega), nI_clamp (n := zs) (by omega), nI_clamp (n := N) (by omega)]; rfl) | (simp only [gd_0, nI_clamp (n := P) (by omega), nI_clamp (n := zs) (by omega), nI_clamp (n := N) (by omega)]; split <;> first | rfl | contradiction) | (exfalso; omega)
            have eszI : gd (rowC (nI P) (nI zs) (nI N)) (va_up szI (nI P).toNatClampNeg (nI N)) szI = va_up szI P (nI N) := by rw [hC]; first | rfl | (simp only [nI_clamp (n := P) (by omega), nI_clamp (n := zs) (by omega), nI_clamp (n := N) (by omega)]; rfl) | (simp only [gd_0, nI_clamp (n := P) (by omega), nI_clamp (n := zs) (by omega), nI_clamp (n := N) (by omega)]; split <;> first | rfl | contradiction) | (exfalso; omega)
            have eRI : gd (rowC (nI P) (nI zs) (nI N)) (va_up RI (nI P).toNatClampNeg (fun _ => 0)) RI = va_up RI P (fun _ => 0) := by rw [hC]; first | rfl | (simp only [nI_clamp (n := P) (by omega), nI_clamp (n := zs) (by omega), nI_clamp (n := N) (by omega)]; rfl) | (simp only [gd_0, nI_clamp (n := P) (by omega), nI_clamp (n := zs) (by omega), nI_clamp (n := N) (by omega)]; split <;> first | rfl | contradiction) | (exfalso; omega)
            have hI := wI_w (ws' := xW E ad iv ch rd tp (bumpR rf (rowC (nI P) (nI zs) (nI N))) (hdI (gd (rowC (nI P) (nI zs) (nI N)) (va_up shI (nI P).toNatClampNeg 1) shI) (va_up aqI P r_37)) nw tr gr dy im ++ (itsW (itF E (va_up aqI P r_37) (gd (rowC (nI P) (nI zs) (nI N)) (va_up shI (nI P).toNatClampNeg 1) shI) (gd (rowC (nI P) (nI zs) (nI N)) (va_up soI (nI P).toNatClampNeg (nI zs)) soI) (gd (rowC (nI P) (nI zs) (nI N)) (va_up szI (nI P).toNatClampNeg (nI N)) szI) kmI bmI (gd (rowC (nI P) (nI zs) (nI N)) (va_up RI (nI P).toNatClampNeg (fun _ => 0)) RI)))) (by rw [erf, ehd, eshI, esoI, eszI, eRI]; try rfl) hI
            exact hret (va_up aqI P r_37) 1 _ _ (0 + 3) (0 + 54) _ _ dX0_row_56 hI (by show 1 = gd (rowC (nI P) (nI zs) (nI N)) 1 (rowC (nI P) (nI zs) (nI N)); rw [hC]; first | rfl | (simp only [nI_clamp (n := P) (by omega), nI_clamp (n := zs) (by omega), nI_clamp (n := N) (by omega)]; rfl) | (simp only [gd_0, nI_clamp (n := P) (by omega), nI_clamp (n := zs) (by omega), nI_clamp (n := N) (by omega)]; split <;> first | rfl | contradiction)) (Nat.le_of_ble_eq_true rfl) (Nat.le_of_ble_eq_true rfl) rfl
        · skip
          have i_19 : ¬ (z.toInt ≤ 40) := by have zz := mt i_le.mpr c_19; exact zz
          refine lv_aload_n hxR hbR dX0_row_22 rfl (lv_at hl 0 rfl) ?_
          refine lv_bipush (v := (-2)) hxR hbR dX0_row_23 (by decide) ?_
          refine kVI (n := 1) (As := [.int (-2)]) (rest := []) (fun w => w ++ (itsW (itF E aqI shI soI szI kmI bmI RI))) hxR hbR hmlR hts hown hK hA hl.1 (isCtx.suf _) hI (c0_no l E ad iv ch rd tp rf (hdI shI aqI) nw tr gr dy im (-2) 2 (by decide) (by decide)) (lw_V q396 q398 qs2 q81 q399) ⟨rfl, by decide +kernel⟩ 8 0 rfl rfl xW_o rfl (Nat.le_of_ble_eq_true rfl) (Nat.le_of_ble_eq_true rfl) ⟨Nat.le_of_ble_eq_true rfl, Nat.le_of_ble_eq_true rfl⟩ (Nat.le_of_ble_eq_true rfl) dX0_row_25 (fun r_25 u H locs hp hI hz => ?_)
          have hI : wI E AR sR H locs (xW E ad iv ch rd tp (va_up rf 2 (rf 2 + 1)) (hdI shI aqI) nw tr gr dy im ++ (itsW (itF E aqI shI soI szI kmI bmI RI))) := hI
          have hp : r_25 = (-2) := hp
          have hr_25 := hp
          subst hr_25
          have hC : rowC (nI P) (nI zs) z = (-2) := by
            clear hret hI
            unfold rowC
            try simp only [nI_clamp (n := P) (by omega), nI_clamp (n := zs) (by omega)]
            repeat' split
            all_goals first | rfl | (exfalso; omega) | contradiction | (exfalso; simp_all; done) | simp_all
          have erf : bumpR rf (rowC (nI P) (nI zs) z) = va_up rf 2 (rf 2 + 1) := by rw [hC]; exact bump_2 _
          have ehd : hdI (gd (rowC (nI P) (nI zs) z) (va_up shI (nI P).toNatClampNeg 1) shI) aqI = hdI shI aqI := by rw [hC]; first | rfl | (simp only [nI_clamp (n := P) (by omega), nI_clamp (n := zs) (by omega)]; rfl) | (simp only [gd_0, nI_clamp (n := P) (by omega), nI_clamp (n := zs) (by omega)]; split <;> first | rfl | contradiction) | (exfalso; omega)
          have eshI : gd (rowC (nI P) (nI zs) z) (va_up shI (nI P).toNatClampNeg 1) shI = shI := by rw [hC]; first | rfl | (simp only [nI_clamp (n := P) (by omega), nI_clamp (n := zs) (by omega)]; rfl) | (simp only [gd_0, nI_clamp (n := P) (by omega), nI_clamp (n := zs) (by omega)]; split <;> first | rfl | contradiction) | (exfalso; omega)
          have esoI : gd (rowC (nI P) (nI zs) z) (va_up soI (nI P).toNatClampNeg (nI zs)) soI = soI := by rw [hC]; first | rfl | (simp only [nI_clamp (n := P) (by omega), nI_clamp (n := zs) (by omega)]; rfl) | (simp only [gd_0, nI_clamp (n := P) (by omega), nI_clamp (n := zs) (by omega)]; split <;> first | rfl | contradiction) | (exfalso; omega)
          have eszI : gd (rowC (nI P) (nI zs) z) (va_up szI (nI P).toNatClampNeg z) szI = szI := by rw [hC]; first | rfl | (simp only [nI_clamp (n := P) (by omega), nI_clamp (n := zs) (by omega)]; rfl) | (simp only [gd_0, nI_clamp (n := P) (by omega), nI_clamp (n := zs) (by omega)]; split <;> first | rfl | contradiction) | (exfalso; omega)
          have eRI : gd (rowC (nI P) (nI zs) z) (va_up RI (nI P).toNatClampNeg (fun _ => 0)) RI = RI := by rw [hC]; first | rfl | (simp only [nI_clamp (n := P) (by omega), nI_clamp (n := zs) (by omega)]; rfl) | (simp only [gd_0, nI_clamp (n := P) (by omega), nI_clamp (n := zs) (by omega)]; split <;> first | rfl | contradiction) | (exfalso; omega)
          have hI := wI_w (ws' := xW E ad iv ch rd tp (bumpR rf (rowC (nI P) (nI zs) z)) (hdI (gd (rowC (nI P) (nI zs) z) (va_up shI (nI P).toNatClampNeg 1) shI) aqI) nw tr gr dy im ++ (itsW (itF E aqI (gd (rowC (nI P) (nI zs) z) (va_up shI (nI P).toNatClampNeg 1) shI) (gd (rowC (nI P) (nI zs) z) (va_up soI (nI P).toNatClampNeg (nI zs)) soI) (gd (rowC (nI P) (nI zs) z) (va_up szI (nI P).toNatClampNeg z) szI) kmI bmI (gd (rowC (nI P) (nI zs) z) (va_up RI (nI P).toNatClampNeg (fun _ => 0)) RI)))) (by rw [erf, ehd, eshI, esoI, eszI, eRI]; try rfl) hI
          exact hret aqI (-2) _ _ 0 0 _ _ dX0_row_28 hI (by show (-2) = gd (rowC (nI P) (nI zs) z) 1 (rowC (nI P) (nI zs) z); rw [hC]; first | rfl | (simp only [nI_clamp (n := P) (by omega), nI_clamp (n := zs) (by omega)]; rfl) | (simp only [gd_0, nI_clamp (n := P) (by omega), nI_clamp (n := zs) (by omega)]; split <;> first | rfl | contradiction)) (Nat.le_of_ble_eq_true rfl) (Nat.le_of_ble_eq_true rfl) rfl
  · skip
    have c_1 : ¬ (0 ≤ Int32.toInt x ∧ Int32.toInt x ≤ 7) := of_decide_eq_false c_1
    refine lv_if_eq (tgt := 22) hxR hbR dX0_row_4 (by decide) (fun _ => ?_) (fun c => absurd c (by decide))
    refine lv_aload_n hxR hbR dX0_row_22 rfl (lv_at hl 0 rfl) ?_
    refine lv_bipush (v := (-2)) hxR hbR dX0_row_23 (by decide) ?_
    refine kVI (n := 1) (As := [.int (-2)]) (rest := []) (fun w => w ++ (itsW (itF E aqI shI soI szI kmI bmI RI))) hxR hbR hmlR hts hown hK hA hl.1 (isCtx.suf _) hI (c0_no l E ad iv ch rd tp rf (hdI shI aqI) nw tr gr dy im (-2) 2 (by decide) (by decide)) (lw_V q396 q398 qs2 q81 q399) ⟨rfl, by decide +kernel⟩ 8 0 rfl rfl xW_o rfl (Nat.le_of_ble_eq_true rfl) (Nat.le_of_ble_eq_true rfl) ⟨Nat.le_of_ble_eq_true rfl, Nat.le_of_ble_eq_true rfl⟩ (Nat.le_of_ble_eq_true rfl) dX0_row_25 (fun r_25 u H locs hp hI hz => ?_)
    have hI : wI E AR sR H locs (xW E ad iv ch rd tp (va_up rf 2 (rf 2 + 1)) (hdI shI aqI) nw tr gr dy im ++ (itsW (itF E aqI shI soI szI kmI bmI RI))) := hI
    have hp : r_25 = (-2) := hp
    have hr_25 := hp
    subst hr_25
    have hC : rowC x y z = (-2) := by
      clear hret hI
      unfold rowC
      repeat' split
      all_goals first | rfl | (exfalso; omega) | contradiction | (exfalso; simp_all; done) | simp_all
    have erf : bumpR rf (rowC x y z) = va_up rf 2 (rf 2 + 1) := by rw [hC]; exact bump_2 _
    have ehd : hdI (gd (rowC x y z) (va_up shI x.toNatClampNeg 1) shI) aqI = hdI shI aqI := by rw [hC]; first | rfl | (simp only [gd_0]; split <;> first | rfl | contradiction) | (exfalso; omega)
    have eshI : gd (rowC x y z) (va_up shI x.toNatClampNeg 1) shI = shI := by rw [hC]; first | rfl | (simp only [gd_0]; split <;> first | rfl | contradiction) | (exfalso; omega)
    have esoI : gd (rowC x y z) (va_up soI x.toNatClampNeg y) soI = soI := by rw [hC]; first | rfl | (simp only [gd_0]; split <;> first | rfl | contradiction) | (exfalso; omega)
    have eszI : gd (rowC x y z) (va_up szI x.toNatClampNeg z) szI = szI := by rw [hC]; first | rfl | (simp only [gd_0]; split <;> first | rfl | contradiction) | (exfalso; omega)
    have eRI : gd (rowC x y z) (va_up RI x.toNatClampNeg (fun _ => 0)) RI = RI := by rw [hC]; first | rfl | (simp only [gd_0]; split <;> first | rfl | contradiction) | (exfalso; omega)
    have hI := wI_w (ws' := xW E ad iv ch rd tp (bumpR rf (rowC x y z)) (hdI (gd (rowC x y z) (va_up shI x.toNatClampNeg 1) shI) aqI) nw tr gr dy im ++ (itsW (itF E aqI (gd (rowC x y z) (va_up shI x.toNatClampNeg 1) shI) (gd (rowC x y z) (va_up soI x.toNatClampNeg y) soI) (gd (rowC x y z) (va_up szI x.toNatClampNeg z) szI) kmI bmI (gd (rowC x y z) (va_up RI x.toNatClampNeg (fun _ => 0)) RI)))) (by rw [erf, ehd, eshI, esoI, eszI, eRI]; try rfl) hI
    exact hret aqI (-2) _ _ 0 0 _ _ dX0_row_28 hI (by show (-2) = gd (rowC x y z) 1 (rowC x y z); rw [hC]; first | rfl | (simp only [gd_0]; split <;> first | rfl | contradiction)) (Nat.le_of_ble_eq_true rfl) (Nat.le_of_ble_eq_true rfl) rfl

theorem c0_coachman (l : Launch) (E : En) (ad : Nat → Nat) (iv : Nat → Int32) (ch : Nat → Int32) (rd : Nat → Int32) (tp : Nat → Int32) (rf : Nat → Int32) (nw : Nat) (tr : Nat) (gr : Nat) (dy : Nat) (im : Option Nat) (aqI : Nat → Nat) (shI : Nat → Int32) (soI : Nat → Int32) (szI : Nat → Int32) (kmI : Nat → Int32) (bmI : Nat → Int32) (RI : Nat → Nat → Int64) (x k a : Int32) (hlt : l.stackTraces = false)  : XtI l E yX0_coachman (ws_ yX0_coachman cX0_coachman 4 (some FieldType.int)) 6 1 1 [.ref (ad 11), .int x, .int k, .int a] (xW E ad iv ch rd tp rf (hdI shI aqI) nw tr gr dy im ++ (itsW (itF E aqI shI soI szI kmI bmI RI))) (fun (r : Int32) (u : (Nat → Nat)) => r = gd (manC x k a) 1 (manC x k a)) (fun (u : (Nat → Nat)) => xW E ad iv ch rd tp (bumpR rf (manC x k a)) (hdI (gd (manC x k a) (va_up shI x.toNatClampNeg 2) shI) u) nw tr gr dy im ++ (itsW (itF E u (gd (manC x k a) (va_up shI x.toNatClampNeg 2) shI) soI szI (gd (manC x k a) (va_up kmI x.toNatClampNeg k) kmI) (gd (manC x k a) (va_up bmI x.toNatClampNeg a) bmI) RI))) (fun (_ : String) (_ : Unit) => False) (fun (_ : Unit) (_ : Nat) => []) := by
  refine XtI.of (by decide +kernel) (Nat.le_of_ble_eq_true rfl) ?_
  intro pR eR sR mR aR bR tR cR AR ls QR hxR hbR hmlR hts hown hlk hnm hA hK hI hl hret hthr
  have hl : lv_has ls 4 [(0, .ref (ad 11)), (1, .int x), (2, .int k), (3, .int a)] := hl
  refine lv_iload_n hxR hbR dX0_coachman_0 rfl (lv_at hl 1 rfl) ?_
  refine kSI (n := 1) (As := [.int x]) (rest := []) (fun w => w ++ (xW E ad iv ch rd tp rf (hdI shI aqI) nw tr gr dy im ++ (itsW (itF E aqI shI soI szI kmI bmI RI)))) hxR hbR hmlR hts hown hK hA hl.1 (isCtx.suf _) hI (c0_isShelf l E  x ) (lw_S q390 q391 q81 q392) (by decide +kernel) rfl (Nat.le_of_ble_eq_true rfl) (Nat.le_of_ble_eq_true rfl) ⟨Nat.le_of_ble_eq_true rfl, Nat.le_of_ble_eq_true rfl⟩ (Nat.le_of_ble_eq_true rfl) dX0_coachman_1 (fun r_1 u H locs hp hI hz => ?_)
  have hI : wI E AR sR H locs (xW E ad iv ch rd tp rf (hdI shI aqI) nw tr gr dy im ++ (itsW (itF E aqI shI soI szI kmI bmI RI))) := hI
  have hp : r_1 = b2i (decide (0 ≤ x.toInt ∧ x.toInt ≤ 7)) := hp
  have hr_1 := hp
  rcases b2i_cases hr_1 with ⟨c_1, rfl⟩ | ⟨c_1, rfl⟩
  · skip
    have c_1 : 0 ≤ Int32.toInt x ∧ Int32.toInt x ≤ 7 := of_decide_eq_true c_1
    obtain ⟨P, hP, rfl⟩ := nat7 c_1
    have tP : (nI P).toInt = (P : Int) := nI_toInt (by omega)
    refine lv_if_eq (tgt := 26) hxR hbR dX0_coachman_4 (by decide) (fun c => absurd c (by decide)) (fun _ => ?_)
    refine lv_iload_n hxR hbR dX0_coachman_7 rfl (lv_at hl 2 rfl) ?_
    refine lv_iconst (v := 1) hxR hbR dX0_coachman_8 (by decide) ?_
    refine lv_iconst (v := 5) hxR hbR dX0_coachman_9 (by decide) ?_
    refine kSI (n := 3) (As := [.int k, .int 1, .int 5]) (rest := []) (fun w => w ++ (xW E ad iv ch rd tp rf (hdI shI aqI) nw tr gr dy im ++ (itsW (itF E aqI shI soI szI kmI bmI RI)))) hxR hbR hmlR hts hown hK hA hl.1 (isCtx.suf _) hI (c0_isIn l E  k 1 5 ) (lw_S q393 q394 q81 q395) (by decide +kernel) rfl (Nat.le_of_ble_eq_true rfl) (Nat.le_of_ble_eq_true rfl) ⟨Nat.le_of_ble_eq_true rfl, Nat.le_of_ble_eq_true rfl⟩ (Nat.le_of_ble_eq_true rfl) dX0_coachman_10 (fun r_10 u H locs hp hI hz => ?_)
    have hI : wI E AR sR H locs (xW E ad iv ch rd tp rf (hdI shI aqI) nw tr gr dy im ++ (itsW (itF E aqI shI soI szI kmI bmI RI))) := hI
    have hp : r_10 = b2i (decide (Int32.toInt 1 ≤ Int32.toInt k ∧ Int32.toInt k ≤ Int32.toInt 5)) := hp
    have hr_10 := hp
    rcases b2i_cases hr_10 with ⟨c_10, rfl⟩ | ⟨c_10, rfl⟩
    · skip
      have c_10 : Int32.toInt 1 ≤ Int32.toInt k ∧ Int32.toInt k ≤ Int32.toInt 5 := of_decide_eq_true c_10
      have c_10 : 1 ≤ k.toInt ∧ k.toInt ≤ 5 := by exact c_10
      obtain ⟨k0, hk0, rfl⟩ := nat_le_of (m := 5) (by omega) c_10.2
      have tk0 : (nI k0).toInt = (k0 : Int) := nI_toInt (by omega)
      refine lv_if_eq (tgt := 26) hxR hbR dX0_coachman_13 (by decide) (fun c => absurd c (by decide)) (fun _ => ?_)
      refine lv_iload_n hxR hbR dX0_coachman_16 rfl (lv_at hl 3 rfl) ?_
      refine lv_iconst (v := 0) hxR hbR dX0_coachman_17 (by decide) ?_
      refine lv_bipush (v := 9) hxR hbR dX0_coachman_18 (by decide) ?_
      refine kSI (n := 3) (As := [.int a, .int 0, .int 9]) (rest := []) (fun w => w ++ (xW E ad iv ch rd tp rf (hdI shI aqI) nw tr gr dy im ++ (itsW (itF E aqI shI soI szI kmI bmI RI)))) hxR hbR hmlR hts hown hK hA hl.1 (isCtx.suf _) hI (c0_isIn l E  a 0 9 ) (lw_S q393 q394 q81 q395) (by decide +kernel) rfl (Nat.le_of_ble_eq_true rfl) (Nat.le_of_ble_eq_true rfl) ⟨Nat.le_of_ble_eq_true rfl, Nat.le_of_ble_eq_true rfl⟩ (Nat.le_of_ble_eq_true rfl) dX0_coachman_20 (fun r_20 u H locs hp hI hz => ?_)
      have hI : wI E AR sR H locs (xW E ad iv ch rd tp rf (hdI shI aqI) nw tr gr dy im ++ (itsW (itF E aqI shI soI szI kmI bmI RI))) := hI
      have hp : r_20 = b2i (decide (Int32.toInt 0 ≤ Int32.toInt a ∧ Int32.toInt a ≤ Int32.toInt 9)) := hp
      have hr_20 := hp
      rcases b2i_cases hr_20 with ⟨c_20, rfl⟩ | ⟨c_20, rfl⟩
      · skip
        have c_20 : Int32.toInt 0 ≤ Int32.toInt a ∧ Int32.toInt a ≤ Int32.toInt 9 := of_decide_eq_true c_20
        have c_20 : 0 ≤ a.toInt ∧ a.toInt ≤ 9 := by exact c_20
        refine lv_if_ne (tgt := 33) hxR hbR dX0_coachman_23 (by decide) (fun _ => ?_) (fun c => absurd c (by decide))
        refine lv_aload_n hxR hbR dX0_coachman_33 rfl (lv_at hl 0 rfl) ?_
        refine r_get hxR hbR hts hown hK hI okX0 (ci := 0) rfl 8 (he_l xW_o) 7 (by decide) q271 rfl (v := .ref (ad 7)) rfl dX0_coachman_34 ?_
        refine lv_iload_n hxR hbR dX0_coachman_37 rfl (lv_at hl 1 rfl) ?_
        refine r_aald hxR hbR hK hI 11 7 (r := ad (20 + P)) rfl rfl (n := 8) (J := P) (he_l rfl) hP (by decide) rfl dX0_coachman_38 ?_
        refine lv_iload_n hxR hbR dX0_coachman_39 rfl (lv_at hl 2 rfl) ?_
        refine lv_iload_n hxR hbR dX0_coachman_40 rfl (lv_at hl 3 rfl) ?_
        refine kSR (n := 2) (As := [.int (nI k0), .int a]) (rest := [.ref (ad (20 + P))]) (fun w => w ++ (xW E ad iv ch rd tp rf (hdI shI aqI) nw tr gr dy im ++ (itsW (itF E aqI shI soI szI kmI bmI RI)))) hxR hbR hmlR hts hown hK hA hl.1 (isCtx.suf _) hI (c0_made l E  k0 a (by omega) (by omega)) (lw_S q553 q554 q81 q555) (by decide +kernel) rfl (Nat.le_of_ble_eq_true rfl) (Nat.le_of_ble_eq_true rfl) ⟨Nat.le_of_ble_eq_true rfl, Nat.le_of_ble_eq_true rfl⟩ (Nat.le_of_ble_eq_true rfl) dX0_coachman_41 (fun u r_41 H locs hp hI hz => ?_)
        have hI : wI E AR sR H locs (manW E r_41 k0 a ++ (xW E ad iv ch rd tp rf (hdI shI aqI) nw tr gr dy im ++ (itsW (itF E aqI shI soI szI kmI bmI RI)))) := hI
        refine r_put (v := .ref r_41) (ws1 := manW E r_41 k0 a ++ (xW E ad iv ch rd tp rf (va_up (hdI shI aqI) P (some r_41)) nw tr gr dy im ++ (itsW (itF E aqI shI soI szI kmI bmI RI)))) hxR hbR hts hown hK hI okX4 (ci := 4) rfl (1 + P) (he_r (Nat.le_of_ble_eq_true rfl) (Nat.le_of_ble_eq_true rfl) (he_l (xW_s P hP))) 0 (by decide) q258 rfl rfl rfl rfl (Nat.le_of_ble_eq_true rfl) (hw_r (Nat.le_of_ble_eq_true rfl) (Nat.le_of_ble_eq_true rfl) (hw_l (by show P < 14; omega) (xW_sr P hP))) dX0_coachman_44 (fun H locs hI => ?_)
        have hI : wI E AR sR _ _ (itsW (itF E aqI shI soI szI kmI bmI RI) ++ (manW E r_41 k0 a ++ (xW E ad iv ch rd tp rf (va_up (hdI shI aqI) P (some r_41)) nw tr gr dy im))) := wI_pick ([manW E r_41 k0 a, xW E ad iv ch rd tp rf (va_up (hdI shI aqI) P (some r_41)) nw tr gr dy im, itsW (itF E aqI shI soI szI kmI bmI RI)]) [2, 0, 1] 3 rfl (by decide) hI
        have hI := its_out (f := itF E aqI shI soI szI kmI bmI RI) hP rfl hI
        have hI := wI_dropL hI
        have hI : wI E AR sR _ _ (itsX (itF E aqI shI soI szI kmI bmI RI) P ++ (manW E r_41 k0 a ++ (xW E ad iv ch rd tp rf (va_up (hdI shI aqI) P (some r_41)) nw tr gr dy im))) := hI
        have hI : wI E AR sR _ _ (manW E r_41 k0 a ++ (itsX (itF E aqI shI soI szI kmI bmI RI) P ++ (xW E ad iv ch rd tp rf (va_up (hdI shI aqI) P (some r_41)) nw tr gr dy im))) := wI_pick ([itsX (itF E aqI shI soI szI kmI bmI RI) P, manW E r_41 k0 a, xW E ad iv ch rd tp rf (va_up (hdI shI aqI) P (some r_41)) nw tr gr dy im]) [1, 0, 2] 3 rfl (by decide) hI
        have hI := its_in (f := itF E aqI shI soI szI kmI bmI RI) (g := itF E (va_up aqI P r_41) (va_up shI P 2) soI szI (va_up kmI P (nI k0)) (va_up bmI P a) RI) hP (fun j hj => by simp only [itF, va_up_n hj]) ((itF_man va_up_s va_up_s (by omega)).trans (by rw [va_up_s, va_up_s])) hI
        have hI : wI E AR sR _ _ (itsW (itF E (va_up aqI P r_41) (va_up shI P 2) soI szI (va_up kmI P (nI k0)) (va_up bmI P a) RI) ++ (xW E ad iv ch rd tp rf (va_up (hdI shI aqI) P (some r_41)) nw tr gr dy im)) := hI
        have hI : wI E AR sR _ _ (xW E ad iv ch rd tp rf (va_up (hdI shI aqI) P (some r_41)) nw tr gr dy im ++ (itsW (itF E (va_up aqI P r_41) (va_up shI P 2) soI szI (va_up kmI P (nI k0)) (va_up bmI P a) RI))) := wI_pick ([itsW (itF E (va_up aqI P r_41) (va_up shI P 2) soI szI (va_up kmI P (nI k0)) (va_up bmI P a) RI), xW E ad iv ch rd tp rf (va_up (hdI shI aqI) P (some r_41)) nw tr gr dy im]) [1, 0] 2 rfl (by decide) hI
        have hI := wI_w (ws' := xW E ad iv ch rd tp rf (hdI (va_up shI P 2) (va_up aqI P r_41)) nw tr gr dy im ++ (itsW (itF E (va_up aqI P r_41) (va_up shI P 2) soI szI (va_up kmI P (nI k0)) (va_up bmI P a) RI))) (by rw [hdI_up (Or.inr rfl)]) hI
        refine lv_iconst (v := 1) hxR hbR dX0_coachman_47 (by decide) ?_
        have hC : manC (nI P) (nI k0) a = 0 := by
          clear hret hI
          unfold manC
          try simp only [nI_clamp (n := P) (by omega), nI_clamp (n := k0) (by omega)]
          repeat' split
          all_goals first | rfl | (exfalso; omega) | contradiction | (exfalso; simp_all; done) | simp_all
        have erf : bumpR rf (manC (nI P) (nI k0) a) = rf := by rw [hC]; exact bump_0 _
        have ehd : hdI (gd (manC (nI P) (nI k0) a) (va_up shI (nI P).toNatClampNeg 2) shI) (va_up aqI P r_41) = hdI (va_up shI P 2) (va_up aqI P r_41) := by rw [hC]; first | rfl | (simp only [nI_clamp (n := P) (by omega), nI_clamp (n := k0) (by omega)]; rfl) | (simp only [gd_0, nI_clamp (n := P) (by omega), nI_clamp (n := k0) (by omega)]; split <;> first | rfl | contradiction) | (exfalso; omega)
        have eshI : gd (manC (nI P) (nI k0) a) (va_up shI (nI P).toNatClampNeg 2) shI = va_up shI P 2 := by rw [hC]; first | rfl | (simp only [nI_clamp (n := P) (by omega), nI_clamp (n := k0) (by omega)]; rfl) | (simp only [gd_0, nI_clamp (n := P) (by omega), nI_clamp (n := k0) (by omega)]; split <;> first | rfl | contradiction) | (exfalso; omega)
        have ekmI : gd (manC (nI P) (nI k0) a) (va_up kmI (nI P).toNatClampNeg (nI k0)) kmI = va_up kmI P (nI k0) := by rw [hC]; first | rfl | (simp only [nI_clamp (n := P) (by omega), nI_clamp (n := k0) (by omega)]; rfl) | (simp only [gd_0, nI_clamp (n := P) (by omega), nI_clamp (n := k0) (by omega)]; split <;> first | rfl | contradiction) | (exfalso; omega)
        have ebmI : gd (manC (nI P) (nI k0) a) (va_up bmI (nI P).toNatClampNeg a) bmI = va_up bmI P a := by rw [hC]; first | rfl | (simp only [nI_clamp (n := P) (by omega), nI_clamp (n := k0) (by omega)]; rfl) | (simp only [gd_0, nI_clamp (n := P) (by omega), nI_clamp (n := k0) (by omega)]; split <;> first | rfl | contradiction) | (exfalso; omega)
        have hI := wI_w (ws' := xW E ad iv ch rd tp (bumpR rf (manC (nI P) (nI k0) a)) (hdI (gd (manC (nI P) (nI k0) a) (va_up shI (nI P).toNatClampNeg 2) shI) (va_up aqI P r_41)) nw tr gr dy im ++ (itsW (itF E (va_up aqI P r_41) (gd (manC (nI P) (nI k0) a) (va_up shI (nI P).toNatClampNeg 2) shI) soI szI (gd (manC (nI P) (nI k0) a) (va_up kmI (nI P).toNatClampNeg (nI k0)) kmI) (gd (manC (nI P) (nI k0) a) (va_up bmI (nI P).toNatClampNeg a) bmI) RI))) (by rw [erf, ehd, eshI, ekmI, ebmI]; try rfl) hI
        exact hret (va_up aqI P r_41) 1 _ _ (0 + 1) (0 + 1) _ _ dX0_coachman_48 hI (by show 1 = gd (manC (nI P) (nI k0) a) 1 (manC (nI P) (nI k0) a); rw [hC]; first | rfl | (simp only [nI_clamp (n := P) (by omega), nI_clamp (n := k0) (by omega)]; rfl) | (simp only [gd_0, nI_clamp (n := P) (by omega), nI_clamp (n := k0) (by omega)]; split <;> first | rfl | contradiction)) (Nat.le_of_ble_eq_true rfl) (Nat.le_of_ble_eq_true rfl) rfl
      · skip
        have c_20 : ¬ (Int32.toInt 0 ≤ Int32.toInt a ∧ Int32.toInt a ≤ Int32.toInt 9) := of_decide_eq_false c_20
        have c_20 : ¬ (0 ≤ a.toInt ∧ a.toInt ≤ 9) := by exact c_20
        refine lv_if_ne (tgt := 33) hxR hbR dX0_coachman_23 (by decide) (fun c => absurd c (by decide)) (fun _ => ?_)
        refine lv_aload_n hxR hbR dX0_coachman_26 rfl (lv_at hl 0 rfl) ?_
        refine lv_bipush (v := (-2)) hxR hbR dX0_coachman_27 (by decide) ?_
        refine kVI (n := 1) (As := [.int (-2)]) (rest := []) (fun w => w ++ (itsW (itF E aqI shI soI szI kmI bmI RI))) hxR hbR hmlR hts hown hK hA hl.1 (isCtx.suf _) hI (c0_no l E ad iv ch rd tp rf (hdI shI aqI) nw tr gr dy im (-2) 2 (by decide) (by decide)) (lw_V q396 q398 qs2 q81 q399) ⟨rfl, by decide +kernel⟩ 8 0 rfl rfl xW_o rfl (Nat.le_of_ble_eq_true rfl) (Nat.le_of_ble_eq_true rfl) ⟨Nat.le_of_ble_eq_true rfl, Nat.le_of_ble_eq_true rfl⟩ (Nat.le_of_ble_eq_true rfl) dX0_coachman_29 (fun r_29 u H locs hp hI hz => ?_)
        have hI : wI E AR sR H locs (xW E ad iv ch rd tp (va_up rf 2 (rf 2 + 1)) (hdI shI aqI) nw tr gr dy im ++ (itsW (itF E aqI shI soI szI kmI bmI RI))) := hI
        have hp : r_29 = (-2) := hp
        have hr_29 := hp
        subst hr_29
        have hC : manC (nI P) (nI k0) a = (-2) := by
          clear hret hI
          unfold manC
          try simp only [nI_clamp (n := P) (by omega), nI_clamp (n := k0) (by omega)]
          repeat' split
          all_goals first | rfl | (exfalso; omega) | contradiction | (exfalso; simp_all; done) | simp_all
        have erf : bumpR rf (manC (nI P) (nI k0) a) = va_up rf 2 (rf 2 + 1) := by rw [hC]; exact bump_2 _
        have ehd : hdI (gd (manC (nI P) (nI k0) a) (va_up shI (nI P).toNatClampNeg 2) shI) aqI = hdI shI aqI := by rw [hC]; first | rfl | (simp only [nI_clamp (n := P) (by omega), nI_clamp (n := k0) (by omega)]; rfl) | (simp only [gd_0, nI_clamp (n := P) (by omega), nI_clamp (n := k0) (by omega)]; split <;> first | rfl | contradiction) | (exfalso; omega)
        have eshI : gd (manC (nI P) (nI k0) a) (va_up shI (nI P).toNatClampNeg 2) shI = shI := by rw [hC]; first | rfl | (simp only [nI_clamp (n := P) (by omega), nI_clamp (n := k0) (by omega)]; rfl) | (simp only [gd_0, nI_clamp (n := P) (by omega), nI_clamp (n := k0) (by omega)]; split <;> first | rfl | contradiction) | (exfalso; omega)
        have ekmI : gd (manC (nI P) (nI k0) a) (va_up kmI (nI P).toNatClampNeg (nI k0)) kmI = kmI := by rw [hC]; first | rfl | (simp only [nI_clamp (n := P) (by omega), nI_clamp (n := k0) (by omega)]; rfl) | (simp only [gd_0, nI_clamp (n := P) (by omega), nI_clamp (n := k0) (by omega)]; split <;> first | rfl | contradiction) | (exfalso; omega)
        have ebmI : gd (manC (nI P) (nI k0) a) (va_up bmI (nI P).toNatClampNeg a) bmI = bmI := by rw [hC]; first | rfl | (simp only [nI_clamp (n := P) (by omega), nI_clamp (n := k0) (by omega)]; rfl) | (simp only [gd_0, nI_clamp (n := P) (by omega), nI_clamp (n := k0) (by omega)]; split <;> first | rfl | contradiction) | (exfalso; omega)
        have hI := wI_w (ws' := xW E ad iv ch rd tp (bumpR rf (manC (nI P) (nI k0) a)) (hdI (gd (manC (nI P) (nI k0) a) (va_up shI (nI P).toNatClampNeg 2) shI) aqI) nw tr gr dy im ++ (itsW (itF E aqI (gd (manC (nI P) (nI k0) a) (va_up shI (nI P).toNatClampNeg 2) shI) soI szI (gd (manC (nI P) (nI k0) a) (va_up kmI (nI P).toNatClampNeg (nI k0)) kmI) (gd (manC (nI P) (nI k0) a) (va_up bmI (nI P).toNatClampNeg a) bmI) RI))) (by rw [erf, ehd, eshI, ekmI, ebmI]; try rfl) hI
        exact hret aqI (-2) _ _ 0 0 _ _ dX0_coachman_32 hI (by show (-2) = gd (manC (nI P) (nI k0) a) 1 (manC (nI P) (nI k0) a); rw [hC]; first | rfl | (simp only [nI_clamp (n := P) (by omega), nI_clamp (n := k0) (by omega)]; rfl) | (simp only [gd_0, nI_clamp (n := P) (by omega), nI_clamp (n := k0) (by omega)]; split <;> first | rfl | contradiction)) (Nat.le_of_ble_eq_true rfl) (Nat.le_of_ble_eq_true rfl) rfl
    · skip
      have c_10 : ¬ (Int32.toInt 1 ≤ Int32.toInt k ∧ Int32.toInt k ≤ Int32.toInt 5) := of_decide_eq_false c_10
      have c_10 : ¬ (1 ≤ k.toInt ∧ k.toInt ≤ 5) := by exact c_10
      refine lv_if_eq (tgt := 26) hxR hbR dX0_coachman_13 (by decide) (fun _ => ?_) (fun c => absurd c (by decide))
      refine lv_aload_n hxR hbR dX0_coachman_26 rfl (lv_at hl 0 rfl) ?_
      refine lv_bipush (v := (-2)) hxR hbR dX0_coachman_27 (by decide) ?_
      refine kVI (n := 1) (As := [.int (-2)]) (rest := []) (fun w => w ++ (itsW (itF E aqI shI soI szI kmI bmI RI))) hxR hbR hmlR hts hown hK hA hl.1 (isCtx.suf _) hI (c0_no l E ad iv ch rd tp rf (hdI shI aqI) nw tr gr dy im (-2) 2 (by decide) (by decide)) (lw_V q396 q398 qs2 q81 q399) ⟨rfl, by decide +kernel⟩ 8 0 rfl rfl xW_o rfl (Nat.le_of_ble_eq_true rfl) (Nat.le_of_ble_eq_true rfl) ⟨Nat.le_of_ble_eq_true rfl, Nat.le_of_ble_eq_true rfl⟩ (Nat.le_of_ble_eq_true rfl) dX0_coachman_29 (fun r_29 u H locs hp hI hz => ?_)
      have hI : wI E AR sR H locs (xW E ad iv ch rd tp (va_up rf 2 (rf 2 + 1)) (hdI shI aqI) nw tr gr dy im ++ (itsW (itF E aqI shI soI szI kmI bmI RI))) := hI
      have hp : r_29 = (-2) := hp
      have hr_29 := hp
      subst hr_29
      have hC : manC (nI P) k a = (-2) := by
        clear hret hI
        unfold manC
        try simp only [nI_clamp (n := P) (by omega)]
        repeat' split
        all_goals first | rfl | (exfalso; omega) | contradiction | (exfalso; simp_all; done) | simp_all
      have erf : bumpR rf (manC (nI P) k a) = va_up rf 2 (rf 2 + 1) := by rw [hC]; exact bump_2 _
      have ehd : hdI (gd (manC (nI P) k a) (va_up shI (nI P).toNatClampNeg 2) shI) aqI = hdI shI aqI := by rw [hC]; first | rfl | (simp only [nI_clamp (n := P) (by omega)]; rfl) | (simp only [gd_0, nI_clamp (n := P) (by omega)]; split <;> first | rfl | contradiction) | (exfalso; omega)
      have eshI : gd (manC (nI P) k a) (va_up shI (nI P).toNatClampNeg 2) shI = shI := by rw [hC]; first | rfl | (simp only [nI_clamp (n := P) (by omega)]; rfl) | (simp only [gd_0, nI_clamp (n := P) (by omega)]; split <;> first | rfl | contradiction) | (exfalso; omega)
      have ekmI : gd (manC (nI P) k a) (va_up kmI (nI P).toNatClampNeg k) kmI = kmI := by rw [hC]; first | rfl | (simp only [nI_clamp (n := P) (by omega)]; rfl) | (simp only [gd_0, nI_clamp (n := P) (by omega)]; split <;> first | rfl | contradiction) | (exfalso; omega)
      have ebmI : gd (manC (nI P) k a) (va_up bmI (nI P).toNatClampNeg a) bmI = bmI := by rw [hC]; first | rfl | (simp only [nI_clamp (n := P) (by omega)]; rfl) | (simp only [gd_0, nI_clamp (n := P) (by omega)]; split <;> first | rfl | contradiction) | (exfalso; omega)
      have hI := wI_w (ws' := xW E ad iv ch rd tp (bumpR rf (manC (nI P) k a)) (hdI (gd (manC (nI P) k a) (va_up shI (nI P).toNatClampNeg 2) shI) aqI) nw tr gr dy im ++ (itsW (itF E aqI (gd (manC (nI P) k a) (va_up shI (nI P).toNatClampNeg 2) shI) soI szI (gd (manC (nI P) k a) (va_up kmI (nI P).toNatClampNeg k) kmI) (gd (manC (nI P) k a) (va_up bmI (nI P).toNatClampNeg a) bmI) RI))) (by rw [erf, ehd, eshI, ekmI, ebmI]; try rfl) hI
      exact hret aqI (-2) _ _ 0 0 _ _ dX0_coachman_32 hI (by show (-2) = gd (manC (nI P) k a) 1 (manC (nI P) k a); rw [hC]; first | rfl | (simp only [nI_clamp (n := P) (by omega)]; rfl) | (simp only [gd_0, nI_clamp (n := P) (by omega)]; split <;> first | rfl | contradiction)) (Nat.le_of_ble_eq_true rfl) (Nat.le_of_ble_eq_true rfl) rfl
  · skip
    have c_1 : ¬ (0 ≤ Int32.toInt x ∧ Int32.toInt x ≤ 7) := of_decide_eq_false c_1
    refine lv_if_eq (tgt := 26) hxR hbR dX0_coachman_4 (by decide) (fun _ => ?_) (fun c => absurd c (by decide))
    refine lv_aload_n hxR hbR dX0_coachman_26 rfl (lv_at hl 0 rfl) ?_
    refine lv_bipush (v := (-2)) hxR hbR dX0_coachman_27 (by decide) ?_
    refine kVI (n := 1) (As := [.int (-2)]) (rest := []) (fun w => w ++ (itsW (itF E aqI shI soI szI kmI bmI RI))) hxR hbR hmlR hts hown hK hA hl.1 (isCtx.suf _) hI (c0_no l E ad iv ch rd tp rf (hdI shI aqI) nw tr gr dy im (-2) 2 (by decide) (by decide)) (lw_V q396 q398 qs2 q81 q399) ⟨rfl, by decide +kernel⟩ 8 0 rfl rfl xW_o rfl (Nat.le_of_ble_eq_true rfl) (Nat.le_of_ble_eq_true rfl) ⟨Nat.le_of_ble_eq_true rfl, Nat.le_of_ble_eq_true rfl⟩ (Nat.le_of_ble_eq_true rfl) dX0_coachman_29 (fun r_29 u H locs hp hI hz => ?_)
    have hI : wI E AR sR H locs (xW E ad iv ch rd tp (va_up rf 2 (rf 2 + 1)) (hdI shI aqI) nw tr gr dy im ++ (itsW (itF E aqI shI soI szI kmI bmI RI))) := hI
    have hp : r_29 = (-2) := hp
    have hr_29 := hp
    subst hr_29
    have hC : manC x k a = (-2) := by
      clear hret hI
      unfold manC
      repeat' split
      all_goals first | rfl | (exfalso; omega) | contradiction | (exfalso; simp_all; done) | simp_all
    have erf : bumpR rf (manC x k a) = va_up rf 2 (rf 2 + 1) := by rw [hC]; exact bump_2 _
    have ehd : hdI (gd (manC x k a) (va_up shI x.toNatClampNeg 2) shI) aqI = hdI shI aqI := by rw [hC]; first | rfl | (simp only [gd_0]; split <;> first | rfl | contradiction) | (exfalso; omega)
    have eshI : gd (manC x k a) (va_up shI x.toNatClampNeg 2) shI = shI := by rw [hC]; first | rfl | (simp only [gd_0]; split <;> first | rfl | contradiction) | (exfalso; omega)
    have ekmI : gd (manC x k a) (va_up kmI x.toNatClampNeg k) kmI = kmI := by rw [hC]; first | rfl | (simp only [gd_0]; split <;> first | rfl | contradiction) | (exfalso; omega)
    have ebmI : gd (manC x k a) (va_up bmI x.toNatClampNeg a) bmI = bmI := by rw [hC]; first | rfl | (simp only [gd_0]; split <;> first | rfl | contradiction) | (exfalso; omega)
    have hI := wI_w (ws' := xW E ad iv ch rd tp (bumpR rf (manC x k a)) (hdI (gd (manC x k a) (va_up shI x.toNatClampNeg 2) shI) aqI) nw tr gr dy im ++ (itsW (itF E aqI (gd (manC x k a) (va_up shI x.toNatClampNeg 2) shI) soI szI (gd (manC x k a) (va_up kmI x.toNatClampNeg k) kmI) (gd (manC x k a) (va_up bmI x.toNatClampNeg a) bmI) RI))) (by rw [erf, ehd, eshI, ekmI, ebmI]; try rfl) hI
    exact hret aqI (-2) _ _ 0 0 _ _ dX0_coachman_32 hI (by show (-2) = gd (manC x k a) 1 (manC x k a); rw [hC]; first | rfl | (simp only [gd_0]; split <;> first | rfl | contradiction)) (Nat.le_of_ble_eq_true rfl) (Nat.le_of_ble_eq_true rfl) rfl
