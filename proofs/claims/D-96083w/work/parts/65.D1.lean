section XW1
variable {E : En} {ad : Nat → Nat} {iv iv' ch rd tp rf : Nat → Int32} {hd : Nat → Option Nat} {nw tr gr dy : Nat} {im : Option Nat}
theorem xW_c (h : iv = iv') : xW E ad iv ch rd tp rf hd nw tr gr dy im = xW E ad iv' ch rd tp rf hd nw tr gr dy im := by rw [h]
end XW1
theorem c0_no (l : Launch) (E : En) (ad : Nat → Nat) (iv : Nat → Int32) (ch : Nat → Int32) (rd : Nat → Int32) (tp : Nat → Int32) (rf : Nat → Int32) (hd : Nat → Option Nat) (nw : Nat) (tr : Nat) (gr : Nat) (dy : Nat) (im : Option Nat) (y : Int32) (W : Nat) (hy : -y = nI W) (hW : W < 7) : CtI l E yX0_no cX0_no 2 .int 0 0 0 [.ref (ad 11), .int y] (xW E ad iv ch rd tp rf hd nw tr gr dy im) (fun (r : Int32) (u : Unit) => r = y) (fun (u : Unit) => xW E ad iv ch rd tp (va_up rf W (rf W + 1)) hd nw tr gr dy im) := by
  refine CtI.of (by decide +kernel) (Nat.le_of_ble_eq_true rfl) ?_
  intro pR eR sR mR aR bR tR cR AR ls QR hxR hbR hmlR hts hown hlk hnm hA hK hI hl hret
  have hl : lv_has ls 2 [(0, .ref (ad 11)), (1, .int y)] := hl
  refine lv_aload_n hxR hbR dX0_no_0 rfl (lv_at hl 0 rfl) ?_
  refine r_get hxR hbR hts hown hK hI okX0 (ci := 0) rfl 8 xW_o 10 (by decide) q274 rfl (v := .ref (ad 10)) rfl dX0_no_1 ?_
  refine lv_iload_n hxR hbR dX0_no_4 rfl (lv_at hl 1 rfl) ?_
  refine lv_ineg hxR hbR dX0_no_5 ?_
  refine lv_as (y := nI W) hy ?_
  refine lv_dup2_11 hxR hbR dX0_no_6 rfl rfl ?_
  refine r_iald hxR hbR hK hI 13 (n := 7) (J := W) (f := rf) (v := rf W) (xW_g10 rfl) (by omega) (by decide) rfl dX0_no_7 ?_
  refine lv_iconst (v := 1) hxR hbR dX0_no_8 (by decide) ?_
  refine lv_iadd hxR hbR dX0_no_9 ?_
  refine r_iast (ws1 := xW E ad iv ch rd tp (va_up rf W ((rf W) + 1)) hd nw tr gr dy im) hxR hbR hK hI 13 (n := 7) (J := W) (f := rf) (xW_g10 rfl) (by omega) (by decide) xW_a10 dX0_no_10 (fun H locs hI => ?_)
  refine lv_iload_n hxR hbR dX0_no_11 rfl (lv_at hl 1 rfl) ?_
  exact hret () y _ _ _ _ _ _ dX0_no_12 hI (by show y = y; rfl) (Nat.le_of_ble_eq_true rfl) (Nat.le_of_ble_eq_true rfl) rfl

theorem c0_isShelf (l : Launch) (E : En)  (x : Int32)  : CtI l E yX0_isShelf cX0_isShelf 1 .boolean 1 0 0 [.int x] (([] : va_W)) (fun (r : Int32) (u : Unit) => r = b2i (decide (0 ≤ x.toInt ∧ x.toInt ≤ 7))) (fun (u : Unit) => ([] : va_W)) := by
  refine CtI.of (by decide +kernel) (Nat.le_of_ble_eq_true rfl) ?_
  intro pR eR sR mR aR bR tR cR AR ls QR hxR hbR hmlR hts hown hlk hnm hA hK hI hl hret
  have hl : lv_has ls 1 [(0, .int x)] := hl
  refine lv_iload_n hxR hbR dX0_isShelf_0 rfl (lv_at hl 0 rfl) ?_
  refine lv_iconst (v := 0) hxR hbR dX0_isShelf_1 (by decide) ?_
  refine lv_bipush (v := 7) hxR hbR dX0_isShelf_2 (by decide) ?_
  refine kSI (n := 3) (As := [.int x, .int 0, .int 7]) (rest := []) (fun w => w ++ (([] : va_W))) hxR hbR hmlR hts hown hK hA hl.1 (isCtx.suf _) hI (c0_isIn l E  x 0 7 ) (lw_S q393 q394 q81 q395) (by decide +kernel) rfl (Nat.le_of_ble_eq_true rfl) (Nat.le_of_ble_eq_true rfl) ⟨Nat.le_of_ble_eq_true rfl, Nat.le_of_ble_eq_true rfl⟩ (Nat.le_of_ble_eq_true rfl) dX0_isShelf_4 (fun r_4 u H locs hp hI hz => ?_)
  have hI : wI E AR sR H locs (([] : va_W)) := hI
  have hp : r_4 = b2i (decide (Int32.toInt 0 ≤ Int32.toInt x ∧ Int32.toInt x ≤ Int32.toInt 7)) := hp
  have hr_4 := hp
  subst hr_4
  exact hret () (b2i (decide (Int32.toInt 0 ≤ Int32.toInt x ∧ Int32.toInt x ≤ Int32.toInt 7))) _ _ _ _ _ _ dX0_isShelf_7 hI (by show (b2i (decide (Int32.toInt 0 ≤ Int32.toInt x ∧ Int32.toInt x ≤ Int32.toInt 7))) = b2i (decide (0 ≤ x.toInt ∧ x.toInt ≤ 7)); rfl) (Nat.le_of_ble_eq_true rfl) (Nat.le_of_ble_eq_true rfl) (b2i_nar _)

theorem c0_person (l : Launch) (E : En) (ad : Nat → Nat) (iv : Nat → Int32) (ch : Nat → Int32) (rd : Nat → Int32) (tp : Nat → Int32) (rf : Nat → Int32) (hd : Nat → Option Nat) (tr : Nat) (gr : Nat) (dy : Nat) (im : Option Nat) (adn : Nat → Nat) (ivn : Nat → Int32) (hrn : Nat → Int32) (csn : Nat → Int32) (K : Nat → Nat → Int32) (n : Nat) (x y : Int32) (hn : ivn 3 = nI n) (hn7 : n ≤ 7) : CtI l E yX0_person cX0_person 3 .int 3 0 0 [.ref (ad 11), .int x, .int y] (xW E ad iv ch rd tp rf hd (adn 10) tr gr dy im ++ (tW E adn ivn hrn csn (sK K))) (fun (r : Int32) (u : Unit) => r = gd (personC n x y) (nI n) (personC n x y)) (fun (u : Unit) => xW E ad iv ch rd tp (bumpR rf (personC n x y)) hd (adn 10) tr gr dy im ++ (tW E adn (va_up ivn 3 (gd (personC n x y) (nI (n + 1)) (ivn 3))) (gd (personC n x y) (va_up hrn n x) hrn) (gd (personC n x y) (va_up csn n y) csn) (sK (gd (personC n x y) (newK K n n) K)))) := by
  refine CtI.of (by decide +kernel) (Nat.le_of_ble_eq_true rfl) ?_
  intro pR eR sR mR aR bR tR cR AR ls QR hxR hbR hmlR hts hown hlk hnm hA hK hI hl hret
  have hl : lv_has ls 3 [(0, .ref (ad 11)), (1, .int x), (2, .int y)] := hl
  refine lv_iload_n hxR hbR dX0_person_0 rfl (lv_at hl 1 rfl) ?_
  refine lv_iconst (v := 0) hxR hbR dX0_person_1 (by decide) ?_
  refine lv_bipush (v := 23) hxR hbR dX0_person_2 (by decide) ?_
  refine kSI (n := 3) (As := [.int x, .int 0, .int 23]) (rest := []) (fun w => w ++ (xW E ad iv ch rd tp rf hd (adn 10) tr gr dy im ++ (tW E adn ivn hrn csn (sK K)))) hxR hbR hmlR hts hown hK hA hl.1 (isCtx.suf _) hI (c0_isIn l E  x 0 23 ) (lw_S q393 q394 q81 q395) (by decide +kernel) rfl (Nat.le_of_ble_eq_true rfl) (Nat.le_of_ble_eq_true rfl) ⟨Nat.le_of_ble_eq_true rfl, Nat.le_of_ble_eq_true rfl⟩ (Nat.le_of_ble_eq_true rfl) dX0_person_4 (fun r_4 u H locs hp hI hz => ?_)
  have hI : wI E AR sR H locs (xW E ad iv ch rd tp rf hd (adn 10) tr gr dy im ++ (tW E adn ivn hrn csn (sK K))) := hI
  have hp : r_4 = b2i (decide (Int32.toInt 0 ≤ Int32.toInt x ∧ Int32.toInt x ≤ Int32.toInt 23)) := hp
  have hr_4 := hp
  rcases b2i_cases hr_4 with ⟨c_4, rfl⟩ | ⟨c_4, rfl⟩
  · skip
    have c_4 : Int32.toInt 0 ≤ Int32.toInt x ∧ Int32.toInt x ≤ Int32.toInt 23 := of_decide_eq_true c_4
    have c_4 : 0 ≤ x.toInt ∧ x.toInt ≤ 23 := by exact c_4
    refine lv_if_eq (tgt := 20) hxR hbR dX0_person_7 (by decide) (fun c => absurd c (by decide)) (fun _ => ?_)
    refine lv_iload_n hxR hbR dX0_person_10 rfl (lv_at hl 2 rfl) ?_
    refine lv_iconst (v := 0) hxR hbR dX0_person_11 (by decide) ?_
    refine lv_bipush (v := 9) hxR hbR dX0_person_12 (by decide) ?_
    refine kSI (n := 3) (As := [.int y, .int 0, .int 9]) (rest := []) (fun w => w ++ (xW E ad iv ch rd tp rf hd (adn 10) tr gr dy im ++ (tW E adn ivn hrn csn (sK K)))) hxR hbR hmlR hts hown hK hA hl.1 (isCtx.suf _) hI (c0_isIn l E  y 0 9 ) (lw_S q393 q394 q81 q395) (by decide +kernel) rfl (Nat.le_of_ble_eq_true rfl) (Nat.le_of_ble_eq_true rfl) ⟨Nat.le_of_ble_eq_true rfl, Nat.le_of_ble_eq_true rfl⟩ (Nat.le_of_ble_eq_true rfl) dX0_person_14 (fun r_14 u H locs hp hI hz => ?_)
    have hI : wI E AR sR H locs (xW E ad iv ch rd tp rf hd (adn 10) tr gr dy im ++ (tW E adn ivn hrn csn (sK K))) := hI
    have hp : r_14 = b2i (decide (Int32.toInt 0 ≤ Int32.toInt y ∧ Int32.toInt y ≤ Int32.toInt 9)) := hp
    have hr_14 := hp
    rcases b2i_cases hr_14 with ⟨c_14, rfl⟩ | ⟨c_14, rfl⟩
    · skip
      have c_14 : Int32.toInt 0 ≤ Int32.toInt y ∧ Int32.toInt y ≤ Int32.toInt 9 := of_decide_eq_true c_14
      have c_14 : 0 ≤ y.toInt ∧ y.toInt ≤ 9 := by exact c_14
      refine lv_if_ne (tgt := 27) hxR hbR dX0_person_17 (by decide) (fun _ => ?_) (fun c => absurd c (by decide))
      refine lv_aload_n hxR hbR dX0_person_27 rfl (lv_at hl 0 rfl) ?_
      refine r_get hxR hbR hts hown hK hI okX0 (ci := 0) rfl 8 (he_l xW_o) 0 (by decide) q263 rfl (v := .ref (adn 10)) rfl dX0_person_28 ?_
      refine r_get hxR hbR hts hown hK hI okX1 (ci := 1) rfl (14 + 0) (he_r (Nat.le_of_ble_eq_true rfl) (Nat.le_of_ble_eq_true rfl) tW_o) 3 (by decide) q144 rfl (v := .int (nI n)) (al hn) dX0_person_31 ?_
      refine lv_bipush (v := 7) hxR hbR dX0_person_34 (by decide) ?_
      refine lv_icmp_ne (tgt := 48) hxR hbR dX0_person_36 (by decide) (fun c_36 => ?_) (fun c_36 => ?_)
      · skip
        have c_36 : ¬ n = 7 := fun zz => c_36 ((n_eq (a := n) (b := 7) (by omega) (by omega)).mpr zz)
        refine lv_aload_n hxR hbR dX0_person_48 rfl (lv_at hl 0 rfl) ?_
        refine r_get hxR hbR hts hown hK hI okX0 (ci := 0) rfl 8 (he_l xW_o) 0 (by decide) q263 rfl (v := .ref (adn 10)) rfl dX0_person_49 ?_
        refine lv_iload_n hxR hbR dX0_person_52 rfl (lv_at hl 1 rfl) ?_
        refine lv_iload_n hxR hbR dX0_person_53 rfl (lv_at hl 2 rfl) ?_
        refine kVI (n := 2) (As := [.int x, .int y]) (rest := []) (fun w => (xW E ad iv ch rd tp rf hd (adn 10) tr gr dy im) ++ w) hxR hbR hmlR hts hown hK hA hl.1 (isCtx.pre _) hI (c1_adds l E adn ivn hrn csn K n x y hn (by first | omega | with_reducible assumption)) (lw_V q743 q744 q745 q82 q746) ⟨rfl, by decide +kernel⟩ 0 1 rfl rfl tW_o rfl (Nat.le_of_ble_eq_true rfl) (Nat.le_of_ble_eq_true rfl) ⟨Nat.le_of_ble_eq_true rfl, Nat.le_of_ble_eq_true rfl⟩ (Nat.le_of_ble_eq_true rfl) dX0_person_54 (fun r_54 u H locs hp hI hz => ?_)
        have hI : wI E AR sR H locs (xW E ad iv ch rd tp rf hd (adn 10) tr gr dy im ++ (tW E adn (va_up ivn 3 (nI (n + 1))) (va_up hrn n x) (va_up csn n y) (sK (newK K n n)))) := hI
        have hp : r_54 = nI n := hp
        have hr_54 := hp
        subst hr_54
        have hC : personC n x y = 0 := by
          clear hret hI
          unfold personC
          repeat' split
          all_goals first | rfl | (exfalso; omega) | contradiction | (exfalso; simp_all; done) | simp_all
        have erf : bumpR rf (personC n x y) = rf := by rw [hC]; exact bump_0 _
        have eivn3 : gd (personC n x y) (nI (n + 1)) (ivn 3) = nI (n + 1) := by rw [hC]; first | rfl | (simp only [gd_0]; split <;> first | rfl | contradiction) | (exfalso; omega)
        have ehrn : gd (personC n x y) (va_up hrn n x) hrn = va_up hrn n x := by rw [hC]; first | rfl | (simp only [gd_0]; split <;> first | rfl | contradiction) | (exfalso; omega)
        have ecsn : gd (personC n x y) (va_up csn n y) csn = va_up csn n y := by rw [hC]; first | rfl | (simp only [gd_0]; split <;> first | rfl | contradiction) | (exfalso; omega)
        have eSn : sK (gd (personC n x y) (newK K n n) K) = sK (newK K n n) := by rw [hC]; first | rfl | (simp only [gd_0]; split <;> first | rfl | contradiction) | (exfalso; omega)
        have hI := wI_w (ws' := xW E ad iv ch rd tp (bumpR rf (personC n x y)) hd (adn 10) tr gr dy im ++ (tW E adn (va_up ivn 3 (gd (personC n x y) (nI (n + 1)) (ivn 3))) (gd (personC n x y) (va_up hrn n x) hrn) (gd (personC n x y) (va_up csn n y) csn) (sK (gd (personC n x y) (newK K n n) K)))) (by rw [erf, eivn3, ehrn, ecsn, eSn]; try rfl) hI
        exact hret () (nI n) _ _ 0 0 _ _ dX0_person_57 hI (by show (nI n) = gd (personC n x y) (nI n) (personC n x y); rw [hC]; first | rfl | (simp only [gd_0]; split <;> first | rfl | contradiction)) (Nat.le_of_ble_eq_true rfl) (Nat.le_of_ble_eq_true rfl) rfl
      · skip
        have c_36 : n = 7 := (n_eq (a := n) (b := 7) (by omega) (by omega)).mp c_36
        refine lv_aload_n hxR hbR dX0_person_39 rfl (lv_at hl 0 rfl) ?_
        refine lv_bipush (v := (-6)) hxR hbR dX0_person_40 (by decide) ?_
        refine kVI (n := 1) (As := [.int (-6)]) (rest := []) (fun w => w ++ (tW E adn ivn hrn csn (sK K))) hxR hbR hmlR hts hown hK hA hl.1 (isCtx.suf _) hI (c0_no l E ad iv ch rd tp rf hd (adn 10) tr gr dy im (-6) 6 (by decide) (by decide)) (lw_V q396 q398 qs2 q81 q399) ⟨rfl, by decide +kernel⟩ 8 0 rfl rfl xW_o rfl (Nat.le_of_ble_eq_true rfl) (Nat.le_of_ble_eq_true rfl) ⟨Nat.le_of_ble_eq_true rfl, Nat.le_of_ble_eq_true rfl⟩ (Nat.le_of_ble_eq_true rfl) dX0_person_42 (fun r_42 u H locs hp hI hz => ?_)
        have hI : wI E AR sR H locs (xW E ad iv ch rd tp (va_up rf 6 (rf 6 + 1)) hd (adn 10) tr gr dy im ++ (tW E adn ivn hrn csn (sK K))) := hI
        have hp : r_42 = (-6) := hp
        have hr_42 := hp
        subst hr_42
        refine lv_goto (tgt := 57) hxR hbR dX0_person_45 (by decide) ?_
        have hC : personC n x y = (-6) := by
          clear hret hI
          unfold personC
          repeat' split
          all_goals first | rfl | (exfalso; omega) | contradiction | (exfalso; simp_all; done) | simp_all
        have erf : bumpR rf (personC n x y) = va_up rf 6 (rf 6 + 1) := by rw [hC]; exact bump_6 _
        have eivn3 : gd (personC n x y) (nI (n + 1)) (ivn 3) = ivn 3 := by rw [hC]; first | rfl | (simp only [gd_0]; split <;> first | rfl | contradiction) | (exfalso; omega)
        have ehrn : gd (personC n x y) (va_up hrn n x) hrn = hrn := by rw [hC]; first | rfl | (simp only [gd_0]; split <;> first | rfl | contradiction) | (exfalso; omega)
        have ecsn : gd (personC n x y) (va_up csn n y) csn = csn := by rw [hC]; first | rfl | (simp only [gd_0]; split <;> first | rfl | contradiction) | (exfalso; omega)
        have eSn : sK (gd (personC n x y) (newK K n n) K) = sK K := by rw [hC]; first | rfl | (simp only [gd_0]; split <;> first | rfl | contradiction) | (exfalso; omega)
        have hI := wI_w (ws' := xW E ad iv ch rd tp (bumpR rf (personC n x y)) hd (adn 10) tr gr dy im ++ (tW E adn (va_up ivn 3 (gd (personC n x y) (nI (n + 1)) (ivn 3))) (gd (personC n x y) (va_up hrn n x) hrn) (gd (personC n x y) (va_up csn n y) csn) (sK (gd (personC n x y) (newK K n n) K)))) (by rw [erf, eivn3, ehrn, ecsn, eSn, va_up_id (f := ivn) (k := 3) (v := ivn 3) rfl]; try rfl) hI
        exact hret () (-6) _ _ 0 0 _ _ dX0_person_57 hI (by show (-6) = gd (personC n x y) (nI n) (personC n x y); rw [hC]; first | rfl | (simp only [gd_0]; split <;> first | rfl | contradiction)) (Nat.le_of_ble_eq_true rfl) (Nat.le_of_ble_eq_true rfl) rfl
    · skip
      have c_14 : ¬ (Int32.toInt 0 ≤ Int32.toInt y ∧ Int32.toInt y ≤ Int32.toInt 9) := of_decide_eq_false c_14
      have c_14 : ¬ (0 ≤ y.toInt ∧ y.toInt ≤ 9) := by exact c_14
      refine lv_if_ne (tgt := 27) hxR hbR dX0_person_17 (by decide) (fun c => absurd c (by decide)) (fun _ => ?_)
      refine lv_aload_n hxR hbR dX0_person_20 rfl (lv_at hl 0 rfl) ?_
      refine lv_bipush (v := (-2)) hxR hbR dX0_person_21 (by decide) ?_
      refine kVI (n := 1) (As := [.int (-2)]) (rest := []) (fun w => w ++ (tW E adn ivn hrn csn (sK K))) hxR hbR hmlR hts hown hK hA hl.1 (isCtx.suf _) hI (c0_no l E ad iv ch rd tp rf hd (adn 10) tr gr dy im (-2) 2 (by decide) (by decide)) (lw_V q396 q398 qs2 q81 q399) ⟨rfl, by decide +kernel⟩ 8 0 rfl rfl xW_o rfl (Nat.le_of_ble_eq_true rfl) (Nat.le_of_ble_eq_true rfl) ⟨Nat.le_of_ble_eq_true rfl, Nat.le_of_ble_eq_true rfl⟩ (Nat.le_of_ble_eq_true rfl) dX0_person_23 (fun r_23 u H locs hp hI hz => ?_)
      have hI : wI E AR sR H locs (xW E ad iv ch rd tp (va_up rf 2 (rf 2 + 1)) hd (adn 10) tr gr dy im ++ (tW E adn ivn hrn csn (sK K))) := hI
      have hp : r_23 = (-2) := hp
      have hr_23 := hp
      subst hr_23
      have hC : personC n x y = (-2) := by
        clear hret hI
        unfold personC
        repeat' split
        all_goals first | rfl | (exfalso; omega) | contradiction | (exfalso; simp_all; done) | simp_all
      have erf : bumpR rf (personC n x y) = va_up rf 2 (rf 2 + 1) := by rw [hC]; exact bump_2 _
      have eivn3 : gd (personC n x y) (nI (n + 1)) (ivn 3) = ivn 3 := by rw [hC]; first | rfl | (simp only [gd_0]; split <;> first | rfl | contradiction) | (exfalso; omega)
      have ehrn : gd (personC n x y) (va_up hrn n x) hrn = hrn := by rw [hC]; first | rfl | (simp only [gd_0]; split <;> first | rfl | contradiction) | (exfalso; omega)
      have ecsn : gd (personC n x y) (va_up csn n y) csn = csn := by rw [hC]; first | rfl | (simp only [gd_0]; split <;> first | rfl | contradiction) | (exfalso; omega)
      have eSn : sK (gd (personC n x y) (newK K n n) K) = sK K := by rw [hC]; first | rfl | (simp only [gd_0]; split <;> first | rfl | contradiction) | (exfalso; omega)
      have hI := wI_w (ws' := xW E ad iv ch rd tp (bumpR rf (personC n x y)) hd (adn 10) tr gr dy im ++ (tW E adn (va_up ivn 3 (gd (personC n x y) (nI (n + 1)) (ivn 3))) (gd (personC n x y) (va_up hrn n x) hrn) (gd (personC n x y) (va_up csn n y) csn) (sK (gd (personC n x y) (newK K n n) K)))) (by rw [erf, eivn3, ehrn, ecsn, eSn, va_up_id (f := ivn) (k := 3) (v := ivn 3) rfl]; try rfl) hI
      exact hret () (-2) _ _ 0 0 _ _ dX0_person_26 hI (by show (-2) = gd (personC n x y) (nI n) (personC n x y); rw [hC]; first | rfl | (simp only [gd_0]; split <;> first | rfl | contradiction)) (Nat.le_of_ble_eq_true rfl) (Nat.le_of_ble_eq_true rfl) rfl
  · skip
    have c_4 : ¬ (Int32.toInt 0 ≤ Int32.toInt x ∧ Int32.toInt x ≤ Int32.toInt 23) := of_decide_eq_false c_4
    have c_4 : ¬ (0 ≤ x.toInt ∧ x.toInt ≤ 23) := by exact c_4
    refine lv_if_eq (tgt := 20) hxR hbR dX0_person_7 (by decide) (fun _ => ?_) (fun c => absurd c (by decide))
    refine lv_aload_n hxR hbR dX0_person_20 rfl (lv_at hl 0 rfl) ?_
    refine lv_bipush (v := (-2)) hxR hbR dX0_person_21 (by decide) ?_
    refine kVI (n := 1) (As := [.int (-2)]) (rest := []) (fun w => w ++ (tW E adn ivn hrn csn (sK K))) hxR hbR hmlR hts hown hK hA hl.1 (isCtx.suf _) hI (c0_no l E ad iv ch rd tp rf hd (adn 10) tr gr dy im (-2) 2 (by decide) (by decide)) (lw_V q396 q398 qs2 q81 q399) ⟨rfl, by decide +kernel⟩ 8 0 rfl rfl xW_o rfl (Nat.le_of_ble_eq_true rfl) (Nat.le_of_ble_eq_true rfl) ⟨Nat.le_of_ble_eq_true rfl, Nat.le_of_ble_eq_true rfl⟩ (Nat.le_of_ble_eq_true rfl) dX0_person_23 (fun r_23 u H locs hp hI hz => ?_)
    have hI : wI E AR sR H locs (xW E ad iv ch rd tp (va_up rf 2 (rf 2 + 1)) hd (adn 10) tr gr dy im ++ (tW E adn ivn hrn csn (sK K))) := hI
    have hp : r_23 = (-2) := hp
    have hr_23 := hp
    subst hr_23
    have hC : personC n x y = (-2) := by
      clear hret hI
      unfold personC
      repeat' split
      all_goals first | rfl | (exfalso; omega) | contradiction | (exfalso; simp_all; done) | simp_all
    have erf : bumpR rf (personC n x y) = va_up rf 2 (rf 2 + 1) := by rw [hC]; exact bump_2 _
    have eivn3 : gd (personC n x y) (nI (n + 1)) (ivn 3) = ivn 3 := by rw [hC]; first | rfl | (simp only [gd_0]; split <;> first | rfl | contradiction) | (exfalso; omega)
    have ehrn : gd (personC n x y) (va_up hrn n x) hrn = hrn := by rw [hC]; first | rfl | (simp only [gd_0]; split <;> first | rfl | contradiction) | (exfalso; omega)
    have ecsn : gd (personC n x y) (va_up csn n y) csn = csn := by rw [hC]; first | rfl | (simp only [gd_0]; split <;> first | rfl | contradiction) | (exfalso; omega)
    have eSn : sK (gd (personC n x y) (newK K n n) K) = sK K := by rw [hC]; first | rfl | (simp only [gd_0]; split <;> first | rfl | contradiction) | (exfalso; omega)
    have hI := wI_w (ws' := xW E ad iv ch rd tp (bumpR rf (personC n x y)) hd (adn 10) tr gr dy im ++ (tW E adn (va_up ivn 3 (gd (personC n x y) (nI (n + 1)) (ivn 3))) (gd (personC n x y) (va_up hrn n x) hrn) (gd (personC n x y) (va_up csn n y) csn) (sK (gd (personC n x y) (newK K n n) K)))) (by rw [erf, eivn3, ehrn, ecsn, eSn, va_up_id (f := ivn) (k := 3) (v := ivn 3) rfl]; try rfl) hI
    exact hret () (-2) _ _ 0 0 _ _ dX0_person_26 hI (by show (-2) = gd (personC n x y) (nI n) (personC n x y); rw [hC]; first | rfl | (simp only [gd_0]; split <;> first | rfl | contradiction)) (Nat.le_of_ble_eq_true rfl) (Nat.le_of_ble_eq_true rfl) rfl

theorem c0_change (l : Launch) (E : En) (ad : Nat → Nat) (iv : Nat → Int32) (ch : Nat → Int32) (rd : Nat → Int32) (tp : Nat → Int32) (rf : Nat → Int32) (hd : Nat → Option Nat) (tr : Nat) (gr : Nat) (dy : Nat) (im : Option Nat) (adn : Nat → Nat) (ivn : Nat → Int32) (hrn : Nat → Int32) (csn : Nat → Int32) (K : Nat → Nat → Int32) (n : Nat) (x w v : Int32) (hn : ivn 3 = nI n) (hn7 : n ≤ 7) : CtI l E yX0_change cX0_change 6 .int 3 0 0 [.ref (ad 11), .int x, .int w, .int v] (xW E ad iv ch rd tp rf hd (adn 10) tr gr dy im ++ (tW E adn ivn hrn csn (sK K))) (fun (r : Int32) (u : Unit) => r = gd (changeC n x w v) ((if w = 0 then hrn else csn) x.toNatClampNeg) (changeC n x w v)) (fun (u : Unit) => xW E ad iv ch rd tp (bumpR rf (changeC n x w v)) hd (adn 10) tr gr dy im ++ (tW E adn ivn (gd (changeC n x w v) (if w = 0 then va_up hrn x.toNatClampNeg v else hrn) hrn) (gd (changeC n x w v) (if w = 0 then csn else va_up csn x.toNatClampNeg v) csn) (sK K))) := by
  refine CtI.of (by decide +kernel) (Nat.le_of_ble_eq_true rfl) ?_
  intro pR eR sR mR aR bR tR cR AR ls QR hxR hbR hmlR hts hown hlk hnm hA hK hI hl hret
  have hl : lv_has ls 6 [(0, .ref (ad 11)), (1, .int x), (2, .int w), (3, .int v)] := hl
  refine lv_aload_n hxR hbR dX0_change_0 rfl (lv_at hl 0 rfl) ?_
  refine r_get hxR hbR hts hown hK hI okX0 (ci := 0) rfl 8 (he_l xW_o) 0 (by decide) q263 rfl (v := .ref (adn 10)) rfl dX0_change_1 ?_
  refine lv_iload_n hxR hbR dX0_change_4 rfl (lv_at hl 1 rfl) ?_
  refine kVI (n := 1) (As := [.int x]) (rest := []) (fun w => (xW E ad iv ch rd tp rf hd (adn 10) tr gr dy im) ++ w) hxR hbR hmlR hts hown hK hA hl.1 (isCtx.pre _) hI (c1_isOne l E adn ivn hrn csn K n x hn (by omega)) (lw_V q755 q756 q757 q82 q758) ⟨rfl, by decide +kernel⟩ 0 1 rfl rfl tW_o rfl (Nat.le_of_ble_eq_true rfl) (Nat.le_of_ble_eq_true rfl) ⟨Nat.le_of_ble_eq_true rfl, Nat.le_of_ble_eq_true rfl⟩ (Nat.le_of_ble_eq_true rfl) dX0_change_5 (fun r_5 u H locs hp hI hz => ?_)
  have hI : wI E AR sR H locs (xW E ad iv ch rd tp rf hd (adn 10) tr gr dy im ++ (tW E adn ivn hrn csn (sK K))) := hI
  have hp : r_5 = b2i (decide (0 ≤ x.toInt ∧ x.toInt < (n : Int))) := hp
  have hr_5 := hp
  rcases b2i_cases hr_5 with ⟨c_5, rfl⟩ | ⟨c_5, rfl⟩
  · skip
    have c_5 : 0 ≤ Int32.toInt x ∧ Int32.toInt x < (n : Int) := of_decide_eq_true c_5
    obtain ⟨P, hP, rfl⟩ := nat_of c_5 (by omega)
    have tP : (nI P).toInt = (P : Int) := nI_toInt (by omega)
    refine lv_if_eq (tgt := 39) hxR hbR dX0_change_8 (by decide) (fun c => absurd c (by decide)) (fun _ => ?_)
    refine lv_iload_n hxR hbR dX0_change_11 rfl (lv_at hl 2 rfl) ?_
    refine lv_iconst (v := 0) hxR hbR dX0_change_12 (by decide) ?_
    refine lv_iconst (v := 1) hxR hbR dX0_change_13 (by decide) ?_
    refine kSI (n := 3) (As := [.int w, .int 0, .int 1]) (rest := []) (fun w => w ++ (xW E ad iv ch rd tp rf hd (adn 10) tr gr dy im ++ (tW E adn ivn hrn csn (sK K)))) hxR hbR hmlR hts hown hK hA hl.1 (isCtx.suf _) hI (c0_isIn l E  w 0 1 ) (lw_S q393 q394 q81 q395) (by decide +kernel) rfl (Nat.le_of_ble_eq_true rfl) (Nat.le_of_ble_eq_true rfl) ⟨Nat.le_of_ble_eq_true rfl, Nat.le_of_ble_eq_true rfl⟩ (Nat.le_of_ble_eq_true rfl) dX0_change_14 (fun r_14 u H locs hp hI hz => ?_)
    have hI : wI E AR sR H locs (xW E ad iv ch rd tp rf hd (adn 10) tr gr dy im ++ (tW E adn ivn hrn csn (sK K))) := hI
    have hp : r_14 = b2i (decide (Int32.toInt 0 ≤ Int32.toInt w ∧ Int32.toInt w ≤ Int32.toInt 1)) := hp
    have hr_14 := hp
    rcases b2i_cases hr_14 with ⟨c_14, rfl⟩ | ⟨c_14, rfl⟩
    · skip
      have c_14 : Int32.toInt 0 ≤ Int32.toInt w ∧ Int32.toInt w ≤ Int32.toInt 1 := of_decide_eq_true c_14
      have c_14 : 0 ≤ w.toInt ∧ w.toInt ≤ 1 := by exact c_14
      refine lv_if_eq (tgt := 39) hxR hbR dX0_change_17 (by decide) (fun c => absurd c (by decide)) (fun _ => ?_)
      refine lv_iload_n hxR hbR dX0_change_20 rfl (lv_at hl 3 rfl) ?_
      refine lv_iconst (v := 0) hxR hbR dX0_change_21 (by decide) ?_
      refine lv_iload_n hxR hbR dX0_change_22 rfl (lv_at hl 2 rfl) ?_
      refine lv_if_ne (tgt := 31) hxR hbR dX0_change_23 (by decide) (fun c_23 => ?_) (fun c_23 => ?_)
      · skip
        have i_23 : ¬ (w.toInt = 0) := by have zz := mt i_eq.mpr c_23; exact zz
        refine lv_bipush (v := 9) hxR hbR dX0_change_31 (by decide) ?_
        refine kSI (n := 3) (As := [.int v, .int 0, .int 9]) (rest := []) (fun w => w ++ (xW E ad iv ch rd tp rf hd (adn 10) tr gr dy im ++ (tW E adn ivn hrn csn (sK K)))) hxR hbR hmlR hts hown hK hA hl.1 (isCtx.suf _) hI (c0_isIn l E  v 0 9 ) (lw_S q393 q394 q81 q395) (by decide +kernel) rfl (Nat.le_of_ble_eq_true rfl) (Nat.le_of_ble_eq_true rfl) ⟨Nat.le_of_ble_eq_true rfl, Nat.le_of_ble_eq_true rfl⟩ (Nat.le_of_ble_eq_true rfl) dX0_change_33 (fun r_33 u H locs hp hI hz => ?_)
        have hI : wI E AR sR H locs (xW E ad iv ch rd tp rf hd (adn 10) tr gr dy im ++ (tW E adn ivn hrn csn (sK K))) := hI
        have hp : r_33 = b2i (decide (Int32.toInt 0 ≤ Int32.toInt v ∧ Int32.toInt v ≤ Int32.toInt 9)) := hp
        have hr_33 := hp
        rcases b2i_cases hr_33 with ⟨c_33, rfl⟩ | ⟨c_33, rfl⟩
        · skip
          have c_33 : Int32.toInt 0 ≤ Int32.toInt v ∧ Int32.toInt v ≤ Int32.toInt 9 := of_decide_eq_true c_33
          have c_33 : 0 ≤ v.toInt ∧ v.toInt ≤ 9 := by exact c_33
          refine lv_if_ne (tgt := 46) hxR hbR dX0_change_36 (by decide) (fun _ => ?_) (fun c => absurd c (by decide))
          refine lv_iload_n hxR hbR dX0_change_46 rfl (lv_at hl 2 rfl) ?_
          refine lv_if_ne (tgt := 60) hxR hbR dX0_change_47 (by decide) (fun c_47 => ?_) (fun c_47 => ?_)
          · skip
            have i_47 : ¬ (w.toInt = 0) := by have zz := mt i_eq.mpr c_47; exact zz
            refine lv_aload_n hxR hbR dX0_change_60 rfl (lv_at hl 0 rfl) ?_
            refine r_get hxR hbR hts hown hK hI okX0 (ci := 0) rfl 8 (he_l xW_o) 0 (by decide) q263 rfl (v := .ref (adn 10)) rfl dX0_change_61 ?_
            refine r_get hxR hbR hts hown hK hI okX1 (ci := 1) rfl (14 + 0) (he_r (Nat.le_of_ble_eq_true rfl) (Nat.le_of_ble_eq_true rfl) tW_o) 1 (by decide) q137 rfl (v := .ref (adn 1)) rfl dX0_change_64 ?_
            refine lv_astore (lv' := [(4, .ref (adn 1)), (0, .ref (ad 11)), (1, .int (nI P)), (2, .int w), (3, .int v)]) hxR hbR dX0_change_67 hl (by decide) rfl (fun ls hl => ?_)
            refine lv_aload hxR hbR dX0_change_69 (lv_at hl 0 rfl) ?_
            refine lv_iload_n hxR hbR dX0_change_71 rfl (lv_at hl 2 rfl) ?_
            refine r_iald hxR hbR hK hI (14 + 2) (n := 7) (J := P) (f := csn) (v := csn P) (he_r (Nat.le_of_ble_eq_true rfl) (Nat.le_of_ble_eq_true rfl) (tW_g1 rfl)) (by omega) (by decide) rfl dX0_change_72 ?_
            refine lv_istore (lv' := [(5, .int (csn P)), (4, .ref (adn 1)), (0, .ref (ad 11)), (1, .int (nI P)), (2, .int w), (3, .int v)]) hxR hbR dX0_change_73 hl (by decide) rfl (fun ls hl => ?_)
            refine lv_aload hxR hbR dX0_change_75 (lv_at hl 1 rfl) ?_
            refine lv_iload_n hxR hbR dX0_change_77 rfl (lv_at hl 3 rfl) ?_
            refine lv_iload_n hxR hbR dX0_change_78 rfl (lv_at hl 5 rfl) ?_
            refine r_iast (ws1 := xW E ad iv ch rd tp rf hd (adn 10) tr gr dy im ++ (tW E adn ivn hrn (va_up csn P v) (sK K))) hxR hbR hK hI (14 + 2) (n := 7) (J := P) (f := csn) (he_r (Nat.le_of_ble_eq_true rfl) (Nat.le_of_ble_eq_true rfl) (tW_g1 rfl)) (by omega) (by decide) (hw_r (Nat.le_of_ble_eq_true rfl) (Nat.le_of_ble_eq_true rfl) tW_a1) dX0_change_79 (fun H locs hI => ?_)
            refine lv_iload hxR hbR dX0_change_80 (lv_at hl 0 rfl) ?_
            have hC : changeC n (nI P) w v = 0 := by
              clear hret hI
              unfold changeC
              try simp only [nI_clamp (n := P) (by omega)]
              repeat' split
              all_goals first | rfl | (exfalso; omega) | contradiction | (exfalso; simp_all; done) | simp_all
            have erf : bumpR rf (changeC n (nI P) w v) = rf := by rw [hC]; exact bump_0 _
            have ehrn : gd (changeC n (nI P) w v) (if w = 0 then va_up hrn (nI P).toNatClampNeg v else hrn) hrn = hrn := by rw [hC]; first | rfl | (simp only [nI_clamp (n := P) (by omega)]; rfl) | (simp only [gd_0, nI_clamp (n := P) (by omega)]; split <;> first | rfl | contradiction) | (exfalso; omega)
            have ecsn : gd (changeC n (nI P) w v) (if w = 0 then csn else va_up csn (nI P).toNatClampNeg v) csn = va_up csn P v := by rw [hC]; first | rfl | (simp only [nI_clamp (n := P) (by omega)]; rfl) | (simp only [gd_0, nI_clamp (n := P) (by omega)]; split <;> first | rfl | contradiction) | (exfalso; omega)
            have hI := wI_w (ws' := xW E ad iv ch rd tp (bumpR rf (changeC n (nI P) w v)) hd (adn 10) tr gr dy im ++ (tW E adn ivn (gd (changeC n (nI P) w v) (if w = 0 then va_up hrn (nI P).toNatClampNeg v else hrn) hrn) (gd (changeC n (nI P) w v) (if w = 0 then csn else va_up csn (nI P).toNatClampNeg v) csn) (sK K))) (by rw [erf, ehrn, ecsn]; try rfl) hI
            exact hret () (csn P) _ _ 0 0 _ _ dX0_change_82 hI (by show (csn P) = gd (changeC n (nI P) w v) ((if w = 0 then hrn else csn) (nI P).toNatClampNeg) (changeC n (nI P) w v); rw [hC]; first | rfl | (simp only [nI_clamp (n := P) (by omega)]; rfl) | (simp only [gd_0, nI_clamp (n := P) (by omega)]; split <;> first | rfl | contradiction)) (Nat.le_of_ble_eq_true rfl) (Nat.le_of_ble_eq_true rfl) rfl
          · skip
            have i_47 : w.toInt = 0 := by have zz := i_eq.mp c_47; exact zz
            refine lv_aload_n hxR hbR dX0_change_50 rfl (lv_at hl 0 rfl) ?_
            refine r_get hxR hbR hts hown hK hI okX0 (ci := 0) rfl 8 (he_l xW_o) 0 (by decide) q263 rfl (v := .ref (adn 10)) rfl dX0_change_51 ?_
            refine r_get hxR hbR hts hown hK hI okX1 (ci := 1) rfl (14 + 0) (he_r (Nat.le_of_ble_eq_true rfl) (Nat.le_of_ble_eq_true rfl) tW_o) 0 (by decide) q133 rfl (v := .ref (adn 0)) rfl dX0_change_54 ?_
            refine lv_goto (tgt := 67) hxR hbR dX0_change_57 (by decide) ?_
            refine lv_astore (lv' := [(4, .ref (adn 0)), (0, .ref (ad 11)), (1, .int (nI P)), (2, .int w), (3, .int v)]) hxR hbR dX0_change_67 hl (by decide) rfl (fun ls hl => ?_)
            refine lv_aload hxR hbR dX0_change_69 (lv_at hl 0 rfl) ?_
            refine lv_iload_n hxR hbR dX0_change_71 rfl (lv_at hl 2 rfl) ?_
            refine r_iald hxR hbR hK hI (14 + 1) (n := 7) (J := P) (f := hrn) (v := hrn P) (he_r (Nat.le_of_ble_eq_true rfl) (Nat.le_of_ble_eq_true rfl) (tW_g0 rfl)) (by omega) (by decide) rfl dX0_change_72 ?_
            refine lv_istore (lv' := [(5, .int (hrn P)), (4, .ref (adn 0)), (0, .ref (ad 11)), (1, .int (nI P)), (2, .int w), (3, .int v)]) hxR hbR dX0_change_73 hl (by decide) rfl (fun ls hl => ?_)
            refine lv_aload hxR hbR dX0_change_75 (lv_at hl 1 rfl) ?_
            refine lv_iload_n hxR hbR dX0_change_77 rfl (lv_at hl 3 rfl) ?_
            refine lv_iload_n hxR hbR dX0_change_78 rfl (lv_at hl 5 rfl) ?_
            refine r_iast (ws1 := xW E ad iv ch rd tp rf hd (adn 10) tr gr dy im ++ (tW E adn ivn (va_up hrn P v) csn (sK K))) hxR hbR hK hI (14 + 1) (n := 7) (J := P) (f := hrn) (he_r (Nat.le_of_ble_eq_true rfl) (Nat.le_of_ble_eq_true rfl) (tW_g0 rfl)) (by omega) (by decide) (hw_r (Nat.le_of_ble_eq_true rfl) (Nat.le_of_ble_eq_true rfl) tW_a0) dX0_change_79 (fun H locs hI => ?_)
            refine lv_iload hxR hbR dX0_change_80 (lv_at hl 0 rfl) ?_
            have hC : changeC n (nI P) w v = 0 := by
              clear hret hI
              unfold changeC
              try simp only [nI_clamp (n := P) (by omega)]
              repeat' split
              all_goals first | rfl | (exfalso; omega) | contradiction | (exfalso; simp_all; done) | simp_all
            have erf : bumpR rf (changeC n (nI P) w v) = rf := by rw [hC]; exact bump_0 _
            have ehrn : gd (changeC n (nI P) w v) (if w = 0 then va_up hrn (nI P).toNatClampNeg v else hrn) hrn = va_up hrn P v := by rw [hC]; first | rfl | (simp only [nI_clamp (n := P) (by omega)]; rfl) | (simp only [gd_0, nI_clamp (n := P) (by omega)]; split <;> first | rfl | contradiction) | (exfalso; omega)
            have ecsn : gd (changeC n (nI P) w v) (if w = 0 then csn else va_up csn (nI P).toNatClampNeg v) csn = csn := by rw [hC]; first | rfl | (simp only [nI_clamp (n := P) (by omega)]; rfl) | (simp only [gd_0, nI_clamp (n := P) (by omega)]; split <;> first | rfl | contradiction) | (exfalso; omega)
            have hI := wI_w (ws' := xW E ad iv ch rd tp (bumpR rf (changeC n (nI P) w v)) hd (adn 10) tr gr dy im ++ (tW E adn ivn (gd (changeC n (nI P) w v) (if w = 0 then va_up hrn (nI P).toNatClampNeg v else hrn) hrn) (gd (changeC n (nI P) w v) (if w = 0 then csn else va_up csn (nI P).toNatClampNeg v) csn) (sK K))) (by rw [erf, ehrn, ecsn]; try rfl) hI
            exact hret () (hrn P) _ _ 0 0 _ _ dX0_change_82 hI (by show (hrn P) = gd (changeC n (nI P) w v) ((if w = 0 then hrn else csn) (nI P).toNatClampNeg) (changeC n (nI P) w v); rw [hC]; first | rfl | (simp only [nI_clamp (n := P) (by omega)]; rfl) | (simp only [gd_0, nI_clamp (n := P) (by omega)]; split <;> first | rfl | contradiction)) (Nat.le_of_ble_eq_true rfl) (Nat.le_of_ble_eq_true rfl) rfl
        · skip
          have c_33 : ¬ (Int32.toInt 0 ≤ Int32.toInt v ∧ Int32.toInt v ≤ Int32.toInt 9) := of_decide_eq_false c_33
          have c_33 : ¬ (0 ≤ v.toInt ∧ v.toInt ≤ 9) := by exact c_33
          refine lv_if_ne (tgt := 46) hxR hbR dX0_change_36 (by decide) (fun c => absurd c (by decide)) (fun _ => ?_)
          refine lv_aload_n hxR hbR dX0_change_39 rfl (lv_at hl 0 rfl) ?_
          refine lv_bipush (v := (-2)) hxR hbR dX0_change_40 (by decide) ?_
          refine kVI (n := 1) (As := [.int (-2)]) (rest := []) (fun w => w ++ (tW E adn ivn hrn csn (sK K))) hxR hbR hmlR hts hown hK hA hl.1 (isCtx.suf _) hI (c0_no l E ad iv ch rd tp rf hd (adn 10) tr gr dy im (-2) 2 (by decide) (by decide)) (lw_V q396 q398 qs2 q81 q399) ⟨rfl, by decide +kernel⟩ 8 0 rfl rfl xW_o rfl (Nat.le_of_ble_eq_true rfl) (Nat.le_of_ble_eq_true rfl) ⟨Nat.le_of_ble_eq_true rfl, Nat.le_of_ble_eq_true rfl⟩ (Nat.le_of_ble_eq_true rfl) dX0_change_42 (fun r_42 u H locs hp hI hz => ?_)
          have hI : wI E AR sR H locs (xW E ad iv ch rd tp (va_up rf 2 (rf 2 + 1)) hd (adn 10) tr gr dy im ++ (tW E adn ivn hrn csn (sK K))) := hI
          have hp : r_42 = (-2) := hp
          have hr_42 := hp
          subst hr_42
          have hC : changeC n (nI P) w v = (-2) := by
            clear hret hI
            unfold changeC
            try simp only [nI_clamp (n := P) (by omega)]
            repeat' split
            all_goals first | rfl | (exfalso; omega) | contradiction | (exfalso; simp_all; done) | simp_all
          have erf : bumpR rf (changeC n (nI P) w v) = va_up rf 2 (rf 2 + 1) := by rw [hC]; exact bump_2 _
          have ehrn : gd (changeC n (nI P) w v) (if w = 0 then va_up hrn (nI P).toNatClampNeg v else hrn) hrn = hrn := by rw [hC]; first | rfl | (simp only [nI_clamp (n := P) (by omega)]; rfl) | (simp only [gd_0, nI_clamp (n := P) (by omega)]; split <;> first | rfl | contradiction) | (exfalso; omega)
          have ecsn : gd (changeC n (nI P) w v) (if w = 0 then csn else va_up csn (nI P).toNatClampNeg v) csn = csn := by rw [hC]; first | rfl | (simp only [nI_clamp (n := P) (by omega)]; rfl) | (simp only [gd_0, nI_clamp (n := P) (by omega)]; split <;> first | rfl | contradiction) | (exfalso; omega)
          have hI := wI_w (ws' := xW E ad iv ch rd tp (bumpR rf (changeC n (nI P) w v)) hd (adn 10) tr gr dy im ++ (tW E adn ivn (gd (changeC n (nI P) w v) (if w = 0 then va_up hrn (nI P).toNatClampNeg v else hrn) hrn) (gd (changeC n (nI P) w v) (if w = 0 then csn else va_up csn (nI P).toNatClampNeg v) csn) (sK K))) (by rw [erf, ehrn, ecsn]; try rfl) hI
          exact hret () (-2) _ _ 0 0 _ _ dX0_change_45 hI (by show (-2) = gd (changeC n (nI P) w v) ((if w = 0 then hrn else csn) (nI P).toNatClampNeg) (changeC n (nI P) w v); rw [hC]; first | rfl | (simp only [nI_clamp (n := P) (by omega)]; rfl) | (simp only [gd_0, nI_clamp (n := P) (by omega)]; split <;> first | rfl | contradiction)) (Nat.le_of_ble_eq_true rfl) (Nat.le_of_ble_eq_true rfl) rfl
      · skip
        have i_23 : w.toInt = 0 := by have zz := i_eq.mp c_23; exact zz
        refine lv_bipush (v := 23) hxR hbR dX0_change_26 (by decide) ?_
        refine lv_goto (tgt := 33) hxR hbR dX0_change_28 (by decide) ?_
        refine kSI (n := 3) (As := [.int v, .int 0, .int 23]) (rest := []) (fun w => w ++ (xW E ad iv ch rd tp rf hd (adn 10) tr gr dy im ++ (tW E adn ivn hrn csn (sK K)))) hxR hbR hmlR hts hown hK hA hl.1 (isCtx.suf _) hI (c0_isIn l E  v 0 23 ) (lw_S q393 q394 q81 q395) (by decide +kernel) rfl (Nat.le_of_ble_eq_true rfl) (Nat.le_of_ble_eq_true rfl) ⟨Nat.le_of_ble_eq_true rfl, Nat.le_of_ble_eq_true rfl⟩ (Nat.le_of_ble_eq_true rfl) dX0_change_33 (fun r_33 u H locs hp hI hz => ?_)
        have hI : wI E AR sR H locs (xW E ad iv ch rd tp rf hd (adn 10) tr gr dy im ++ (tW E adn ivn hrn csn (sK K))) := hI
        have hp : r_33 = b2i (decide (Int32.toInt 0 ≤ Int32.toInt v ∧ Int32.toInt v ≤ Int32.toInt 23)) := hp
        have hr_33 := hp
        rcases b2i_cases hr_33 with ⟨c_33, rfl⟩ | ⟨c_33, rfl⟩
        · skip
          have c_33 : Int32.toInt 0 ≤ Int32.toInt v ∧ Int32.toInt v ≤ Int32.toInt 23 := of_decide_eq_true c_33
          have c_33 : 0 ≤ v.toInt ∧ v.toInt ≤ 23 := by exact c_33
          refine lv_if_ne (tgt := 46) hxR hbR dX0_change_36 (by decide) (fun _ => ?_) (fun c => absurd c (by decide))
          refine lv_iload_n hxR hbR dX0_change_46 rfl (lv_at hl 2 rfl) ?_
          refine lv_if_ne (tgt := 60) hxR hbR dX0_change_47 (by decide) (fun c_47 => ?_) (fun c_47 => ?_)
          · skip
            have i_47 : ¬ (w.toInt = 0) := by have zz := mt i_eq.mpr c_47; exact zz
            refine lv_aload_n hxR hbR dX0_change_60 rfl (lv_at hl 0 rfl) ?_
            refine r_get hxR hbR hts hown hK hI okX0 (ci := 0) rfl 8 (he_l xW_o) 0 (by decide) q263 rfl (v := .ref (adn 10)) rfl dX0_change_61 ?_
            refine r_get hxR hbR hts hown hK hI okX1 (ci := 1) rfl (14 + 0) (he_r (Nat.le_of_ble_eq_true rfl) (Nat.le_of_ble_eq_true rfl) tW_o) 1 (by decide) q137 rfl (v := .ref (adn 1)) rfl dX0_change_64 ?_
            refine lv_astore (lv' := [(4, .ref (adn 1)), (0, .ref (ad 11)), (1, .int (nI P)), (2, .int w), (3, .int v)]) hxR hbR dX0_change_67 hl (by decide) rfl (fun ls hl => ?_)
            refine lv_aload hxR hbR dX0_change_69 (lv_at hl 0 rfl) ?_
            refine lv_iload_n hxR hbR dX0_change_71 rfl (lv_at hl 2 rfl) ?_
            refine r_iald hxR hbR hK hI (14 + 2) (n := 7) (J := P) (f := csn) (v := csn P) (he_r (Nat.le_of_ble_eq_true rfl) (Nat.le_of_ble_eq_true rfl) (tW_g1 rfl)) (by omega) (by decide) rfl dX0_change_72 ?_
            refine lv_istore (lv' := [(5, .int (csn P)), (4, .ref (adn 1)), (0, .ref (ad 11)), (1, .int (nI P)), (2, .int w), (3, .int v)]) hxR hbR dX0_change_73 hl (by decide) rfl (fun ls hl => ?_)
            refine lv_aload hxR hbR dX0_change_75 (lv_at hl 1 rfl) ?_
            refine lv_iload_n hxR hbR dX0_change_77 rfl (lv_at hl 3 rfl) ?_
            refine lv_iload_n hxR hbR dX0_change_78 rfl (lv_at hl 5 rfl) ?_
            refine r_iast (ws1 := xW E ad iv ch rd tp rf hd (adn 10) tr gr dy im ++ (tW E adn ivn hrn (va_up csn P v) (sK K))) hxR hbR hK hI (14 + 2) (n := 7) (J := P) (f := csn) (he_r (Nat.le_of_ble_eq_true rfl) (Nat.le_of_ble_eq_true rfl) (tW_g1 rfl)) (by omega) (by decide) (hw_r (Nat.le_of_ble_eq_true rfl) (Nat.le_of_ble_eq_true rfl) tW_a1) dX0_change_79 (fun H locs hI => ?_)
            refine lv_iload hxR hbR dX0_change_80 (lv_at hl 0 rfl) ?_
            have hC : changeC n (nI P) w v = 0 := by
              clear hret hI
              unfold changeC
              try simp only [nI_clamp (n := P) (by omega)]
              repeat' split
              all_goals first | rfl | (exfalso; omega) | contradiction | (exfalso; simp_all; done) | simp_all
            have erf : bumpR rf (changeC n (nI P) w v) = rf := by rw [hC]; exact bump_0 _
            have ehrn : gd (changeC n (nI P) w v) (if w = 0 then va_up hrn (nI P).toNatClampNeg v else hrn) hrn = hrn := by rw [hC]; first | rfl | (simp only [nI_clamp (n := P) (by omega)]; rfl) | (simp only [gd_0, nI_clamp (n := P) (by omega)]; split <;> first | rfl | contradiction) | (exfalso; omega)
            have ecsn : gd (changeC n (nI P) w v) (if w = 0 then csn else va_up csn (nI P).toNatClampNeg v) csn = va_up csn P v := by rw [hC]; first | rfl | (simp only [nI_clamp (n := P) (by omega)]; rfl) | (simp only [gd_0, nI_clamp (n := P) (by omega)]; split <;> first | rfl | contradiction) | (exfalso; omega)
            have hI := wI_w (ws' := xW E ad iv ch rd tp (bumpR rf (changeC n (nI P) w v)) hd (adn 10) tr gr dy im ++ (tW E adn ivn (gd (changeC n (nI P) w v) (if w = 0 then va_up hrn (nI P).toNatClampNeg v else hrn) hrn) (gd (changeC n (nI P) w v) (if w = 0 then csn else va_up csn (nI P).toNatClampNeg v) csn) (sK K))) (by rw [erf, ehrn, ecsn]; try rfl) hI
            exact hret () (csn P) _ _ 0 0 _ _ dX0_change_82 hI (by show (csn P) = gd (changeC n (nI P) w v) ((if w = 0 then hrn else csn) (nI P).toNatClampNeg) (changeC n (nI P) w v); rw [hC]; first | rfl | (simp only [nI_clamp (n := P) (by omega)]; rfl) | (simp only [gd_0, nI_clamp (n := P) (by omega)]; split <;> first | rfl | contradiction)) (Nat.le_of_ble_eq_true rfl) (Nat.le_of_ble_eq_true rfl) rfl
          · skip
            have i_47 : w.toInt = 0 := by have zz := i_eq.mp c_47; exact zz
            refine lv_aload_n hxR hbR dX0_change_50 rfl (lv_at hl 0 rfl) ?_
            refine r_get hxR hbR hts hown hK hI okX0 (ci := 0) rfl 8 (he_l xW_o) 0 (by decide) q263 rfl (v := .ref (adn 10)) rfl dX0_change_51 ?_
            refine r_get hxR hbR hts hown hK hI okX1 (ci := 1) rfl (14 + 0) (he_r (Nat.le_of_ble_eq_true rfl) (Nat.le_of_ble_eq_true rfl) tW_o) 0 (by decide) q133 rfl (v := .ref (adn 0)) rfl dX0_change_54 ?_
            refine lv_goto (tgt := 67) hxR hbR dX0_change_57 (by decide) ?_
            refine lv_astore (lv' := [(4, .ref (adn 0)), (0, .ref (ad 11)), (1, .int (nI P)), (2, .int w), (3, .int v)]) hxR hbR dX0_change_67 hl (by decide) rfl (fun ls hl => ?_)
            refine lv_aload hxR hbR dX0_change_69 (lv_at hl 0 rfl) ?_
            refine lv_iload_n hxR hbR dX0_change_71 rfl (lv_at hl 2 rfl) ?_
            refine r_iald hxR hbR hK hI (14 + 1) (n := 7) (J := P) (f := hrn) (v := hrn P) (he_r (Nat.le_of_ble_eq_true rfl) (Nat.le_of_ble_eq_true rfl) (tW_g0 rfl)) (by omega) (by decide) rfl dX0_change_72 ?_
            refine lv_istore (lv' := [(5, .int (hrn P)), (4, .ref (adn 0)), (0, .ref (ad 11)), (1, .int (nI P)), (2, .int w), (3, .int v)]) hxR hbR dX0_change_73 hl (by decide) rfl (fun ls hl => ?_)
            refine lv_aload hxR hbR dX0_change_75 (lv_at hl 1 rfl) ?_
            refine lv_iload_n hxR hbR dX0_change_77 rfl (lv_at hl 3 rfl) ?_
            refine lv_iload_n hxR hbR dX0_change_78 rfl (lv_at hl 5 rfl) ?_
            refine r_iast (ws1 := xW E ad iv ch rd tp rf hd (adn 10) tr gr dy im ++ (tW E adn ivn (va_up hrn P v) csn (sK K))) hxR hbR hK hI (14 + 1) (n := 7) (J := P) (f := hrn) (he_r (Nat.le_of_ble_eq_true rfl) (Nat.le_of_ble_eq_true rfl) (tW_g0 rfl)) (by omega) (by decide) (hw_r (Nat.le_of_ble_eq_true rfl) (Nat.le_of_ble_eq_true rfl) tW_a0) dX0_change_79 (fun H locs hI => ?_)
            refine lv_iload hxR hbR dX0_change_80 (lv_at hl 0 rfl) ?_
            have hC : changeC n (nI P) w v = 0 := by
              clear hret hI
              unfold changeC
              try simp only [nI_clamp (n := P) (by omega)]
              repeat' split
              all_goals first | rfl | (exfalso; omega) | contradiction | (exfalso; simp_all; done) | simp_all
            have erf : bumpR rf (changeC n (nI P) w v) = rf := by rw [hC]; exact bump_0 _
            have ehrn : gd (changeC n (nI P) w v) (if w = 0 then va_up hrn (nI P).toNatClampNeg v else hrn) hrn = va_up hrn P v := by rw [hC]; first | rfl | (simp only [nI_clamp (n := P) (by omega)]; rfl) | (simp only [gd_0, nI_clamp (n := P) (by omega)]; split <;> first | rfl | contradiction) | (exfalso; omega)
            have ecsn : gd (changeC n (nI P) w v) (if w = 0 then csn else va_up csn (nI P).toNatClampNeg v) csn = csn := by rw [hC]; first | rfl | (simp only [nI_clamp (n := P) (by omega)]; rfl) | (simp only [gd_0, nI_clamp (n := P) (by omega)]; split <;> first | rfl | contradiction) | (exfalso; omega)
            have hI := wI_w (ws' := xW E ad iv ch rd tp (bumpR rf (changeC n (nI P) w v)) hd (adn 10) tr gr dy im ++ (tW E adn ivn (gd (changeC n (nI P) w v) (if w = 0 then va_up hrn (nI P).toNatClampNeg v else hrn) hrn) (gd (changeC n (nI P) w v) (if w = 0 then csn else va_up csn (nI P).toNatClampNeg v) csn) (sK K))) (by rw [erf, ehrn, ecsn]; try rfl) hI
            exact hret () (hrn P) _ _ 0 0 _ _ dX0_change_82 hI (by show (hrn P) = gd (changeC n (nI P) w v) ((if w = 0 then hrn else csn) (nI P).toNatClampNeg) (changeC n (nI P) w v); rw [hC]; first | rfl | (simp only [nI_clamp (n := P) (by omega)]; rfl) | (simp only [gd_0, nI_clamp (n := P) (by omega)]; split <;> first | rfl | contradiction)) (Nat.le_of_ble_eq_true rfl) (Nat.le_of_ble_eq_true rfl) rfl
        · skip
          have c_33 : ¬ (Int32.toInt 0 ≤ Int32.toInt v ∧ Int32.toInt v ≤ Int32.toInt 23) := of_decide_eq_false c_33
          have c_33 : ¬ (0 ≤ v.toInt ∧ v.toInt ≤ 23) := by exact c_33
          refine lv_if_ne (tgt := 46) hxR hbR dX0_change_36 (by decide) (fun c => absurd c (by decide)) (fun _ => ?_)
          refine lv_aload_n hxR hbR dX0_change_39 rfl (lv_at hl 0 rfl) ?_
          refine lv_bipush (v := (-2)) hxR hbR dX0_change_40 (by decide) ?_
          refine kVI (n := 1) (As := [.int (-2)]) (rest := []) (fun w => w ++ (tW E adn ivn hrn csn (sK K))) hxR hbR hmlR hts hown hK hA hl.1 (isCtx.suf _) hI (c0_no l E ad iv ch rd tp rf hd (adn 10) tr gr dy im (-2) 2 (by decide) (by decide)) (lw_V q396 q398 qs2 q81 q399) ⟨rfl, by decide +kernel⟩ 8 0 rfl rfl xW_o rfl (Nat.le_of_ble_eq_true rfl) (Nat.le_of_ble_eq_true rfl) ⟨Nat.le_of_ble_eq_true rfl, Nat.le_of_ble_eq_true rfl⟩ (Nat.le_of_ble_eq_true rfl) dX0_change_42 (fun r_42 u H locs hp hI hz => ?_)
          have hI : wI E AR sR H locs (xW E ad iv ch rd tp (va_up rf 2 (rf 2 + 1)) hd (adn 10) tr gr dy im ++ (tW E adn ivn hrn csn (sK K))) := hI
          have hp : r_42 = (-2) := hp
          have hr_42 := hp
          subst hr_42
          have hC : changeC n (nI P) w v = (-2) := by
            clear hret hI
            unfold changeC
            try simp only [nI_clamp (n := P) (by omega)]
            repeat' split
            all_goals first | rfl | (exfalso; omega) | contradiction | (exfalso; simp_all; done) | simp_all
          have erf : bumpR rf (changeC n (nI P) w v) = va_up rf 2 (rf 2 + 1) := by rw [hC]; exact bump_2 _
          have ehrn : gd (changeC n (nI P) w v) (if w = 0 then va_up hrn (nI P).toNatClampNeg v else hrn) hrn = hrn := by rw [hC]; first | rfl | (simp only [nI_clamp (n := P) (by omega)]; rfl) | (simp only [gd_0, nI_clamp (n := P) (by omega)]; split <;> first | rfl | contradiction) | (exfalso; omega)
          have ecsn : gd (changeC n (nI P) w v) (if w = 0 then csn else va_up csn (nI P).toNatClampNeg v) csn = csn := by rw [hC]; first | rfl | (simp only [nI_clamp (n := P) (by omega)]; rfl) | (simp only [gd_0, nI_clamp (n := P) (by omega)]; split <;> first | rfl | contradiction) | (exfalso; omega)
          have hI := wI_w (ws' := xW E ad iv ch rd tp (bumpR rf (changeC n (nI P) w v)) hd (adn 10) tr gr dy im ++ (tW E adn ivn (gd (changeC n (nI P) w v) (if w = 0 then va_up hrn (nI P).toNatClampNeg v else hrn) hrn) (gd (changeC n (nI P) w v) (if w = 0 then csn else va_up csn (nI P).toNatClampNeg v) csn) (sK K))) (by rw [erf, ehrn, ecsn]; try rfl) hI
          exact hret () (-2) _ _ 0 0 _ _ dX0_change_45 hI (by show (-2) = gd (changeC n (nI P) w v) ((if w = 0 then hrn else csn) (nI P).toNatClampNeg) (changeC n (nI P) w v); rw [hC]; first | rfl | (simp only [nI_clamp (n := P) (by omega)]; rfl) | (simp only [gd_0, nI_clamp (n := P) (by omega)]; split <;> first | rfl | contradiction)) (Nat.le_of_ble_eq_true rfl) (Nat.le_of_ble_eq_true rfl) rfl
    · skip
      have c_14 : ¬ (Int32.toInt 0 ≤ Int32.toInt w ∧ Int32.toInt w ≤ Int32.toInt 1) := of_decide_eq_false c_14
      have c_14 : ¬ (0 ≤ w.toInt ∧ w.toInt ≤ 1) := by exact c_14
      refine lv_if_eq (tgt := 39) hxR hbR dX0_change_17 (by decide) (fun _ => ?_) (fun c => absurd c (by decide))
      refine lv_aload_n hxR hbR dX0_change_39 rfl (lv_at hl 0 rfl) ?_
      refine lv_bipush (v := (-2)) hxR hbR dX0_change_40 (by decide) ?_
      refine kVI (n := 1) (As := [.int (-2)]) (rest := []) (fun w => w ++ (tW E adn ivn hrn csn (sK K))) hxR hbR hmlR hts hown hK hA hl.1 (isCtx.suf _) hI (c0_no l E ad iv ch rd tp rf hd (adn 10) tr gr dy im (-2) 2 (by decide) (by decide)) (lw_V q396 q398 qs2 q81 q399) ⟨rfl, by decide +kernel⟩ 8 0 rfl rfl xW_o rfl (Nat.le_of_ble_eq_true rfl) (Nat.le_of_ble_eq_true rfl) ⟨Nat.le_of_ble_eq_true rfl, Nat.le_of_ble_eq_true rfl⟩ (Nat.le_of_ble_eq_true rfl) dX0_change_42 (fun r_42 u H locs hp hI hz => ?_)
      have hI : wI E AR sR H locs (xW E ad iv ch rd tp (va_up rf 2 (rf 2 + 1)) hd (adn 10) tr gr dy im ++ (tW E adn ivn hrn csn (sK K))) := hI
      have hp : r_42 = (-2) := hp
      have hr_42 := hp
      subst hr_42
      have hC : changeC n (nI P) w v = (-2) := by
        clear hret hI
        unfold changeC
        try simp only [nI_clamp (n := P) (by omega)]
        repeat' split
        all_goals first | rfl | (exfalso; omega) | contradiction | (exfalso; simp_all; done) | simp_all
      have erf : bumpR rf (changeC n (nI P) w v) = va_up rf 2 (rf 2 + 1) := by rw [hC]; exact bump_2 _
      have ehrn : gd (changeC n (nI P) w v) (if w = 0 then va_up hrn (nI P).toNatClampNeg v else hrn) hrn = hrn := by rw [hC]; first | rfl | (simp only [nI_clamp (n := P) (by omega)]; rfl) | (simp only [gd_0, nI_clamp (n := P) (by omega)]; split <;> first | rfl | contradiction) | (exfalso; omega)
      have ecsn : gd (changeC n (nI P) w v) (if w = 0 then csn else va_up csn (nI P).toNatClampNeg v) csn = csn := by rw [hC]; first | rfl | (simp only [nI_clamp (n := P) (by omega)]; rfl) | (simp only [gd_0, nI_clamp (n := P) (by omega)]; split <;> first | rfl | contradiction) | (exfalso; omega)
      have hI := wI_w (ws' := xW E ad iv ch rd tp (bumpR rf (changeC n (nI P) w v)) hd (adn 10) tr gr dy im ++ (tW E adn ivn (gd (changeC n (nI P) w v) (if w = 0 then va_up hrn (nI P).toNatClampNeg v else hrn) hrn) (gd (changeC n (nI P) w v) (if w = 0 then csn else va_up csn (nI P).toNatClampNeg v) csn) (sK K))) (by rw [erf, ehrn, ecsn]; try rfl) hI
      exact hret () (-2) _ _ 0 0 _ _ dX0_change_45 hI (by show (-2) = gd (changeC n (nI P) w v) ((if w = 0 then hrn else csn) (nI P).toNatClampNeg) (changeC n (nI P) w v); rw [hC]; first | rfl | (simp only [nI_clamp (n := P) (by omega)]; rfl) | (simp only [gd_0, nI_clamp (n := P) (by omega)]; split <;> first | rfl | contradiction)) (Nat.le_of_ble_eq_true rfl) (Nat.le_of_ble_eq_true rfl) rfl
  · skip
    have c_5 : ¬ (0 ≤ Int32.toInt x ∧ Int32.toInt x < (n : Int)) := of_decide_eq_false c_5
    refine lv_if_eq (tgt := 39) hxR hbR dX0_change_8 (by decide) (fun _ => ?_) (fun c => absurd c (by decide))
    refine lv_aload_n hxR hbR dX0_change_39 rfl (lv_at hl 0 rfl) ?_
    refine lv_bipush (v := (-2)) hxR hbR dX0_change_40 (by decide) ?_
    refine kVI (n := 1) (As := [.int (-2)]) (rest := []) (fun w => w ++ (tW E adn ivn hrn csn (sK K))) hxR hbR hmlR hts hown hK hA hl.1 (isCtx.suf _) hI (c0_no l E ad iv ch rd tp rf hd (adn 10) tr gr dy im (-2) 2 (by decide) (by decide)) (lw_V q396 q398 qs2 q81 q399) ⟨rfl, by decide +kernel⟩ 8 0 rfl rfl xW_o rfl (Nat.le_of_ble_eq_true rfl) (Nat.le_of_ble_eq_true rfl) ⟨Nat.le_of_ble_eq_true rfl, Nat.le_of_ble_eq_true rfl⟩ (Nat.le_of_ble_eq_true rfl) dX0_change_42 (fun r_42 u H locs hp hI hz => ?_)
    have hI : wI E AR sR H locs (xW E ad iv ch rd tp (va_up rf 2 (rf 2 + 1)) hd (adn 10) tr gr dy im ++ (tW E adn ivn hrn csn (sK K))) := hI
    have hp : r_42 = (-2) := hp
    have hr_42 := hp
    subst hr_42
    have hC : changeC n x w v = (-2) := by
      clear hret hI
      unfold changeC
      repeat' split
      all_goals first | rfl | (exfalso; omega) | contradiction | (exfalso; simp_all; done) | simp_all
    have erf : bumpR rf (changeC n x w v) = va_up rf 2 (rf 2 + 1) := by rw [hC]; exact bump_2 _
    have ehrn : gd (changeC n x w v) (if w = 0 then va_up hrn x.toNatClampNeg v else hrn) hrn = hrn := by rw [hC]; first | rfl | (simp only [gd_0]; split <;> first | rfl | contradiction) | (exfalso; omega)
    have ecsn : gd (changeC n x w v) (if w = 0 then csn else va_up csn x.toNatClampNeg v) csn = csn := by rw [hC]; first | rfl | (simp only [gd_0]; split <;> first | rfl | contradiction) | (exfalso; omega)
    have hI := wI_w (ws' := xW E ad iv ch rd tp (bumpR rf (changeC n x w v)) hd (adn 10) tr gr dy im ++ (tW E adn ivn (gd (changeC n x w v) (if w = 0 then va_up hrn x.toNatClampNeg v else hrn) hrn) (gd (changeC n x w v) (if w = 0 then csn else va_up csn x.toNatClampNeg v) csn) (sK K))) (by rw [erf, ehrn, ecsn]; try rfl) hI
    exact hret () (-2) _ _ 0 0 _ _ dX0_change_45 hI (by show (-2) = gd (changeC n x w v) ((if w = 0 then hrn else csn) x.toNatClampNeg) (changeC n x w v); rw [hC]; first | rfl | (simp only [gd_0]; split <;> first | rfl | contradiction)) (Nat.le_of_ble_eq_true rfl) (Nat.le_of_ble_eq_true rfl) rfl

theorem c0_areTwo (l : Launch) (E : En) (ad : Nat → Nat) (iv : Nat → Int32) (ch : Nat → Int32) (rd : Nat → Int32) (tp : Nat → Int32) (rf : Nat → Int32) (hd : Nat → Option Nat) (tr : Nat) (gr : Nat) (dy : Nat) (im : Option Nat) (adn : Nat → Nat) (ivn : Nat → Int32) (hrn : Nat → Int32) (csn : Nat → Int32) (K : Nat → Nat → Int32) (n : Nat) (x y : Int32) (hn : ivn 3 = nI n) (hn8 : n ≤ 8) : CtI l E yX0_areTwo cX0_areTwo 3 .boolean 3 0 0 [.ref (ad 11), .int x, .int y] (xW E ad iv ch rd tp rf hd (adn 10) tr gr dy im ++ (tW E adn ivn hrn csn (sK K))) (fun (r : Int32) (u : Unit) => r = b2i (decide ((0 ≤ x.toInt ∧ x.toInt < (n : Int)) ∧ (0 ≤ y.toInt ∧ y.toInt < (n : Int)) ∧ ¬ x = y))) (fun (u : Unit) => xW E ad iv ch rd tp rf hd (adn 10) tr gr dy im ++ (tW E adn ivn hrn csn (sK K))) := by
  refine CtI.of (by decide +kernel) (Nat.le_of_ble_eq_true rfl) ?_
  intro pR eR sR mR aR bR tR cR AR ls QR hxR hbR hmlR hts hown hlk hnm hA hK hI hl hret
  have hl : lv_has ls 3 [(0, .ref (ad 11)), (1, .int x), (2, .int y)] := hl
  refine lv_aload_n hxR hbR dX0_areTwo_0 rfl (lv_at hl 0 rfl) ?_
  refine r_get hxR hbR hts hown hK hI okX0 (ci := 0) rfl 8 (he_l xW_o) 0 (by decide) q263 rfl (v := .ref (adn 10)) rfl dX0_areTwo_1 ?_
  refine lv_iload_n hxR hbR dX0_areTwo_4 rfl (lv_at hl 1 rfl) ?_
  refine kVI (n := 1) (As := [.int x]) (rest := []) (fun w => (xW E ad iv ch rd tp rf hd (adn 10) tr gr dy im) ++ w) hxR hbR hmlR hts hown hK hA hl.1 (isCtx.pre _) hI (c1_isOne l E adn ivn hrn csn K n x hn (by first | omega | with_reducible assumption)) (lw_V q755 q756 q757 q82 q758) ⟨rfl, by decide +kernel⟩ 0 1 rfl rfl tW_o rfl (Nat.le_of_ble_eq_true rfl) (Nat.le_of_ble_eq_true rfl) ⟨Nat.le_of_ble_eq_true rfl, Nat.le_of_ble_eq_true rfl⟩ (Nat.le_of_ble_eq_true rfl) dX0_areTwo_5 (fun r_5 u H locs hp hI hz => ?_)
  have hI : wI E AR sR H locs (xW E ad iv ch rd tp rf hd (adn 10) tr gr dy im ++ (tW E adn ivn hrn csn (sK K))) := hI
  have hp : r_5 = b2i (decide (0 ≤ x.toInt ∧ x.toInt < (n : Int))) := hp
  have hr_5 := hp
  rcases b2i_cases hr_5 with ⟨c_5, rfl⟩ | ⟨c_5, rfl⟩
  · skip
    have c_5 : 0 ≤ Int32.toInt x ∧ Int32.toInt x < (n : Int) := of_decide_eq_true c_5
    refine lv_if_eq (tgt := 31) hxR hbR dX0_areTwo_8 (by decide) (fun c => absurd c (by decide)) (fun _ => ?_)
    refine lv_aload_n hxR hbR dX0_areTwo_11 rfl (lv_at hl 0 rfl) ?_
    refine r_get hxR hbR hts hown hK hI okX0 (ci := 0) rfl 8 (he_l xW_o) 0 (by decide) q263 rfl (v := .ref (adn 10)) rfl dX0_areTwo_12 ?_
    refine lv_iload_n hxR hbR dX0_areTwo_15 rfl (lv_at hl 2 rfl) ?_
    refine kVI (n := 1) (As := [.int y]) (rest := []) (fun w => (xW E ad iv ch rd tp rf hd (adn 10) tr gr dy im) ++ w) hxR hbR hmlR hts hown hK hA hl.1 (isCtx.pre _) hI (c1_isOne l E adn ivn hrn csn K n y hn (by first | omega | with_reducible assumption)) (lw_V q755 q756 q757 q82 q758) ⟨rfl, by decide +kernel⟩ 0 1 rfl rfl tW_o rfl (Nat.le_of_ble_eq_true rfl) (Nat.le_of_ble_eq_true rfl) ⟨Nat.le_of_ble_eq_true rfl, Nat.le_of_ble_eq_true rfl⟩ (Nat.le_of_ble_eq_true rfl) dX0_areTwo_16 (fun r_16 u H locs hp hI hz => ?_)
    have hI : wI E AR sR H locs (xW E ad iv ch rd tp rf hd (adn 10) tr gr dy im ++ (tW E adn ivn hrn csn (sK K))) := hI
    have hp : r_16 = b2i (decide (0 ≤ y.toInt ∧ y.toInt < (n : Int))) := hp
    have hr_16 := hp
    rcases b2i_cases hr_16 with ⟨c_16, rfl⟩ | ⟨c_16, rfl⟩
    · skip
      have c_16 : 0 ≤ Int32.toInt y ∧ Int32.toInt y < (n : Int) := of_decide_eq_true c_16
      refine lv_if_eq (tgt := 31) hxR hbR dX0_areTwo_19 (by decide) (fun c => absurd c (by decide)) (fun _ => ?_)
      refine lv_iload_n hxR hbR dX0_areTwo_22 rfl (lv_at hl 1 rfl) ?_
      refine lv_iload_n hxR hbR dX0_areTwo_23 rfl (lv_at hl 2 rfl) ?_
      refine lv_icmp_eq (tgt := 31) hxR hbR dX0_areTwo_24 (by decide) (fun c_24 => ?_) (fun c_24 => ?_)
      · skip
        have i_24 : x.toInt = y.toInt := by have zz := i_eq.mp c_24; exact zz
        refine lv_iconst (v := 0) hxR hbR dX0_areTwo_31 (by decide) ?_
        exact hret () 0 _ _ _ _ _ _ dX0_areTwo_32 hI (by show 0 = b2i (decide ((0 ≤ x.toInt ∧ x.toInt < (n : Int)) ∧ (0 ≤ y.toInt ∧ y.toInt < (n : Int)) ∧ ¬ x = y)); first | (rw [decide_eq_true ⟨c_5, c_16, c_24⟩]; rfl) | (rw [decide_eq_false (fun z => c_5 z.1)]; rfl) | (rw [decide_eq_false (fun z => c_16 z.2.1)]; rfl) | (rw [decide_eq_false (fun z => z.2.2 c_24)]; rfl)) (Nat.le_of_ble_eq_true rfl) (Nat.le_of_ble_eq_true rfl) rfl
      · skip
        have i_24 : ¬ (x.toInt = y.toInt) := by have zz := mt i_eq.mpr c_24; exact zz
        refine lv_iconst (v := 1) hxR hbR dX0_areTwo_27 (by decide) ?_
        refine lv_goto (tgt := 32) hxR hbR dX0_areTwo_28 (by decide) ?_
        exact hret () 1 _ _ _ _ _ _ dX0_areTwo_32 hI (by show 1 = b2i (decide ((0 ≤ x.toInt ∧ x.toInt < (n : Int)) ∧ (0 ≤ y.toInt ∧ y.toInt < (n : Int)) ∧ ¬ x = y)); first | (rw [decide_eq_true ⟨c_5, c_16, c_24⟩]; rfl) | (rw [decide_eq_false (fun z => c_5 z.1)]; rfl) | (rw [decide_eq_false (fun z => c_16 z.2.1)]; rfl) | (rw [decide_eq_false (fun z => z.2.2 c_24)]; rfl)) (Nat.le_of_ble_eq_true rfl) (Nat.le_of_ble_eq_true rfl) rfl
    · skip
      have c_16 : ¬ (0 ≤ Int32.toInt y ∧ Int32.toInt y < (n : Int)) := of_decide_eq_false c_16
      refine lv_if_eq (tgt := 31) hxR hbR dX0_areTwo_19 (by decide) (fun _ => ?_) (fun c => absurd c (by decide))
      refine lv_iconst (v := 0) hxR hbR dX0_areTwo_31 (by decide) ?_
      exact hret () 0 _ _ _ _ _ _ dX0_areTwo_32 hI (by show 0 = b2i (decide ((0 ≤ x.toInt ∧ x.toInt < (n : Int)) ∧ (0 ≤ y.toInt ∧ y.toInt < (n : Int)) ∧ ¬ x = y)); first | (rw [decide_eq_true ⟨c_5, c_16, c_24⟩]; rfl) | (rw [decide_eq_false (fun z => c_5 z.1)]; rfl) | (rw [decide_eq_false (fun z => c_16 z.2.1)]; rfl) | (rw [decide_eq_false (fun z => z.2.2 c_24)]; rfl)) (Nat.le_of_ble_eq_true rfl) (Nat.le_of_ble_eq_true rfl) rfl
  · skip
    have c_5 : ¬ (0 ≤ Int32.toInt x ∧ Int32.toInt x < (n : Int)) := of_decide_eq_false c_5
    refine lv_if_eq (tgt := 31) hxR hbR dX0_areTwo_8 (by decide) (fun _ => ?_) (fun c => absurd c (by decide))
    refine lv_iconst (v := 0) hxR hbR dX0_areTwo_31 (by decide) ?_
    exact hret () 0 _ _ _ _ _ _ dX0_areTwo_32 hI (by show 0 = b2i (decide ((0 ≤ x.toInt ∧ x.toInt < (n : Int)) ∧ (0 ≤ y.toInt ∧ y.toInt < (n : Int)) ∧ ¬ x = y)); first | (rw [decide_eq_true ⟨c_5, c_16, c_24⟩]; rfl) | (rw [decide_eq_false (fun z => c_5 z.1)]; rfl) | (rw [decide_eq_false (fun z => c_16 z.2.1)]; rfl) | (rw [decide_eq_false (fun z => z.2.2 c_24)]; rfl)) (Nat.le_of_ble_eq_true rfl) (Nat.le_of_ble_eq_true rfl) rfl

theorem c0_know (l : Launch) (E : En) (ad : Nat → Nat) (iv : Nat → Int32) (ch : Nat → Int32) (rd : Nat → Int32) (tp : Nat → Int32) (rf : Nat → Int32) (hd : Nat → Option Nat) (tr : Nat) (gr : Nat) (dy : Nat) (im : Option Nat) (adn : Nat → Nat) (ivn : Nat → Int32) (hrn : Nat → Int32) (csn : Nat → Int32) (K : Nat → Nat → Int32) (n : Nat) (x y v : Int32) (hn : ivn 3 = nI n) (hn7 : n ≤ 7) : CtI l E yX0_know cX0_know 5 .int 4 0 0 [.ref (ad 11), .int x, .int y, .int v] (xW E ad iv ch rd tp rf hd (adn 10) tr gr dy im ++ (tW E adn ivn hrn csn (sK K))) (fun (r : Int32) (u : Unit) => r = gd (knowC n x y v) (K x.toNatClampNeg y.toNatClampNeg) (knowC n x y v)) (fun (u : Unit) => xW E ad iv ch rd tp (bumpR rf (knowC n x y v)) hd (adn 10) tr gr dy im ++ (tW E adn ivn hrn csn (sK (gd (knowC n x y v) (knF K x.toNatClampNeg y.toNatClampNeg v) K)))) := by
  refine CtI.of (by decide +kernel) (Nat.le_of_ble_eq_true rfl) ?_
  intro pR eR sR mR aR bR tR cR AR ls QR hxR hbR hmlR hts hown hlk hnm hA hK hI hl hret
  have hl : lv_has ls 5 [(0, .ref (ad 11)), (1, .int x), (2, .int y), (3, .int v)] := hl
  refine lv_aload_n hxR hbR dX0_know_0 rfl (lv_at hl 0 rfl) ?_
  refine lv_iload_n hxR hbR dX0_know_1 rfl (lv_at hl 1 rfl) ?_
  refine lv_iload_n hxR hbR dX0_know_2 rfl (lv_at hl 2 rfl) ?_
  refine kVI (n := 2) (As := [.int x, .int y]) (rest := []) (fun w => w) hxR hbR hmlR hts hown hK hA hl.1 isCtx.id hI (c0_areTwo l E ad iv ch rd tp rf hd tr gr dy im adn ivn hrn csn K n x y hn (by omega)) (lw_V q764 q766 qs7 q81 q767) ⟨rfl, by decide +kernel⟩ 8 0 rfl rfl (he_l xW_o) rfl (Nat.le_of_ble_eq_true rfl) (Nat.le_of_ble_eq_true rfl) ⟨Nat.le_of_ble_eq_true rfl, Nat.le_of_ble_eq_true rfl⟩ (Nat.le_of_ble_eq_true rfl) dX0_know_3 (fun r_3 u H locs hp hI hz => ?_)
  have hI : wI E AR sR H locs (xW E ad iv ch rd tp rf hd (adn 10) tr gr dy im ++ (tW E adn ivn hrn csn (sK K))) := hI
  have hp : r_3 = b2i (decide ((0 ≤ x.toInt ∧ x.toInt < (n : Int)) ∧ (0 ≤ y.toInt ∧ y.toInt < (n : Int)) ∧ ¬ x = y)) := hp
  have hr_3 := hp
  rcases b2i_cases hr_3 with ⟨c_3, rfl⟩ | ⟨c_3, rfl⟩
  · skip
    have c_3 : (0 ≤ Int32.toInt x ∧ Int32.toInt x < (n : Int)) ∧ (0 ≤ Int32.toInt y ∧ Int32.toInt y < (n : Int)) ∧ ¬ x = y := of_decide_eq_true c_3
    obtain ⟨P, hP, rfl⟩ := nat_of c_3.1 (by omega)
    have tP : (nI P).toInt = (P : Int) := nI_toInt (by omega)
    obtain ⟨Q, hQ, rfl⟩ := nat_of c_3.2.1 (by omega)
    have tQ : (nI Q).toInt = (Q : Int) := nI_toInt (by omega)
    refine lv_if_eq (tgt := 19) hxR hbR dX0_know_6 (by decide) (fun c => absurd c (by decide)) (fun _ => ?_)
    refine lv_iload_n hxR hbR dX0_know_9 rfl (lv_at hl 3 rfl) ?_
    refine lv_iconst (v := (-1)) hxR hbR dX0_know_10 (by decide) ?_
    refine lv_bipush (v := 99) hxR hbR dX0_know_11 (by decide) ?_
    refine kSI (n := 3) (As := [.int v, .int (-1), .int 99]) (rest := []) (fun w => w ++ (xW E ad iv ch rd tp rf hd (adn 10) tr gr dy im ++ (tW E adn ivn hrn csn (sK K)))) hxR hbR hmlR hts hown hK hA hl.1 (isCtx.suf _) hI (c0_isIn l E  v (-1) 99 ) (lw_S q393 q394 q81 q395) (by decide +kernel) rfl (Nat.le_of_ble_eq_true rfl) (Nat.le_of_ble_eq_true rfl) ⟨Nat.le_of_ble_eq_true rfl, Nat.le_of_ble_eq_true rfl⟩ (Nat.le_of_ble_eq_true rfl) dX0_know_13 (fun r_13 u H locs hp hI hz => ?_)
    have hI : wI E AR sR H locs (xW E ad iv ch rd tp rf hd (adn 10) tr gr dy im ++ (tW E adn ivn hrn csn (sK K))) := hI
    have hp : r_13 = b2i (decide (Int32.toInt (-1) ≤ Int32.toInt v ∧ Int32.toInt v ≤ Int32.toInt 99)) := hp
    have hr_13 := hp
    rcases b2i_cases hr_13 with ⟨c_13, rfl⟩ | ⟨c_13, rfl⟩
    · skip
      have c_13 : Int32.toInt (-1) ≤ Int32.toInt v ∧ Int32.toInt v ≤ Int32.toInt 99 := of_decide_eq_true c_13
      have c_13 : (-1) ≤ v.toInt ∧ v.toInt ≤ 99 := by exact c_13
      refine lv_if_ne (tgt := 26) hxR hbR dX0_know_16 (by decide) (fun _ => ?_) (fun c => absurd c (by decide))
      refine lv_aload_n hxR hbR dX0_know_26 rfl (lv_at hl 0 rfl) ?_
      refine r_get hxR hbR hts hown hK hI okX0 (ci := 0) rfl 8 (he_l xW_o) 0 (by decide) q263 rfl (v := .ref (adn 10)) rfl dX0_know_27 ?_
      refine lv_iload_n hxR hbR dX0_know_30 rfl (lv_at hl 1 rfl) ?_
      refine lv_iload_n hxR hbR dX0_know_31 rfl (lv_at hl 2 rfl) ?_
      refine kVI (n := 2) (As := [.int (nI P), .int (nI Q)]) (rest := []) (fun w => (xW E ad iv ch rd tp rf hd (adn 10) tr gr dy im) ++ w) hxR hbR hmlR hts hown hK hA hl.1 (isCtx.pre _) hI (c1_since l E adn ivn hrn csn K P Q (by first | omega | with_reducible assumption) (by first | omega | with_reducible assumption)) (lw_V q768 q639 q640 q82 q641) ⟨rfl, by decide +kernel⟩ 0 1 rfl rfl tW_o rfl (Nat.le_of_ble_eq_true rfl) (Nat.le_of_ble_eq_true rfl) ⟨Nat.le_of_ble_eq_true rfl, Nat.le_of_ble_eq_true rfl⟩ (Nat.le_of_ble_eq_true rfl) dX0_know_32 (fun r_32 u H locs hp hI hz => ?_)
      have hI : wI E AR sR H locs (xW E ad iv ch rd tp rf hd (adn 10) tr gr dy im ++ (tW E adn ivn hrn csn (sK K))) := hI
      have hp : r_32 = K P Q := hp
      have hr_32 := hp
      subst hr_32
      refine lv_istore (lv' := [(4, .int (K P Q)), (0, .ref (ad 11)), (1, .int (nI P)), (2, .int (nI Q)), (3, .int v)]) hxR hbR dX0_know_35 hl (by decide) rfl (fun ls hl => ?_)
      refine lv_aload_n hxR hbR dX0_know_37 rfl (lv_at hl 1 rfl) ?_
      refine r_get hxR hbR hts hown hK hI okX0 (ci := 0) rfl 8 (he_l xW_o) 0 (by decide) q263 rfl (v := .ref (adn 10)) rfl dX0_know_38 ?_
      refine lv_iload_n hxR hbR dX0_know_41 rfl (lv_at hl 2 rfl) ?_
      refine lv_iload_n hxR hbR dX0_know_42 rfl (lv_at hl 3 rfl) ?_
      refine lv_iload_n hxR hbR dX0_know_43 rfl (lv_at hl 4 rfl) ?_
      refine kVV (n := 3) (As := [.int (nI P), .int (nI Q), .int v]) (rest := []) (fun w => (xW E ad iv ch rd tp rf hd (adn 10) tr gr dy im) ++ w) hxR hbR hmlR hts hown hK hA hl.1 (isCtx.pre _) hI (c1_knows l E adn ivn hrn csn K P Q v (by first | omega | with_reducible assumption) (by first | omega | with_reducible assumption)) (lw_V q769 q748 q749 q82 q750) ⟨rfl, by decide +kernel⟩ 0 1 rfl rfl tW_o rfl (Nat.le_of_ble_eq_true rfl) (Nat.le_of_ble_eq_true rfl) ⟨Nat.le_of_ble_eq_true rfl, Nat.le_of_ble_eq_true rfl⟩ (Nat.le_of_ble_eq_true rfl) dX0_know_44 (fun u H locs hp hI hz => ?_)
      have hI : wI E AR sR H locs (xW E ad iv ch rd tp rf hd (adn 10) tr gr dy im ++ (tW E adn ivn hrn csn (sK (knF K P Q v)))) := hI
      refine lv_iload hxR hbR dX0_know_47 (lv_at hl 0 rfl) ?_
      have hC : knowC n (nI P) (nI Q) v = 0 := by
        clear hret hI
        unfold knowC; exact if_pos ⟨c_3, by omega, by omega⟩
      have erf : bumpR rf (knowC n (nI P) (nI Q) v) = rf := by rw [hC]; exact bump_0 _
      have eSn : sK (gd (knowC n (nI P) (nI Q) v) (knF K (nI P).toNatClampNeg (nI Q).toNatClampNeg v) K) = sK (knF K P Q v) := by rw [hC]; first | rfl | (simp only [nI_clamp (n := P) (by omega), nI_clamp (n := Q) (by omega)]; rfl) | (simp only [gd_0, nI_clamp (n := P) (by omega), nI_clamp (n := Q) (by omega)]; split <;> first | rfl | contradiction) | (exfalso; omega)
      have hI := wI_w (ws' := xW E ad iv ch rd tp (bumpR rf (knowC n (nI P) (nI Q) v)) hd (adn 10) tr gr dy im ++ (tW E adn ivn hrn csn (sK (gd (knowC n (nI P) (nI Q) v) (knF K (nI P).toNatClampNeg (nI Q).toNatClampNeg v) K)))) (by rw [erf, eSn]; try rfl) hI
      exact hret () (K P Q) _ _ 0 0 _ _ dX0_know_49 hI (by show (K P Q) = gd (knowC n (nI P) (nI Q) v) (K (nI P).toNatClampNeg (nI Q).toNatClampNeg) (knowC n (nI P) (nI Q) v); rw [hC]; first | rfl | (simp only [nI_clamp (n := P) (by omega), nI_clamp (n := Q) (by omega)]; rfl) | (simp only [gd_0, nI_clamp (n := P) (by omega), nI_clamp (n := Q) (by omega)]; split <;> first | rfl | contradiction)) (Nat.le_of_ble_eq_true rfl) (Nat.le_of_ble_eq_true rfl) rfl
    · skip
      have c_13 : ¬ (Int32.toInt (-1) ≤ Int32.toInt v ∧ Int32.toInt v ≤ Int32.toInt 99) := of_decide_eq_false c_13
      have c_13 : ¬ ((-1) ≤ v.toInt ∧ v.toInt ≤ 99) := by exact c_13
      refine lv_if_ne (tgt := 26) hxR hbR dX0_know_16 (by decide) (fun c => absurd c (by decide)) (fun _ => ?_)
      refine lv_aload_n hxR hbR dX0_know_19 rfl (lv_at hl 0 rfl) ?_
      refine lv_bipush (v := (-2)) hxR hbR dX0_know_20 (by decide) ?_
      refine kVI (n := 1) (As := [.int (-2)]) (rest := []) (fun w => w ++ (tW E adn ivn hrn csn (sK K))) hxR hbR hmlR hts hown hK hA hl.1 (isCtx.suf _) hI (c0_no l E ad iv ch rd tp rf hd (adn 10) tr gr dy im (-2) 2 (by decide) (by decide)) (lw_V q396 q398 qs2 q81 q399) ⟨rfl, by decide +kernel⟩ 8 0 rfl rfl xW_o rfl (Nat.le_of_ble_eq_true rfl) (Nat.le_of_ble_eq_true rfl) ⟨Nat.le_of_ble_eq_true rfl, Nat.le_of_ble_eq_true rfl⟩ (Nat.le_of_ble_eq_true rfl) dX0_know_22 (fun r_22 u H locs hp hI hz => ?_)
      have hI : wI E AR sR H locs (xW E ad iv ch rd tp (va_up rf 2 (rf 2 + 1)) hd (adn 10) tr gr dy im ++ (tW E adn ivn hrn csn (sK K))) := hI
      have hp : r_22 = (-2) := hp
      have hr_22 := hp
      subst hr_22
      have hC : knowC n (nI P) (nI Q) v = (-2) := by
        clear hret hI
        unfold knowC
        try simp only [nI_clamp (n := P) (by omega), nI_clamp (n := Q) (by omega)]
        repeat' split
        all_goals first | rfl | (exfalso; omega) | contradiction | (exfalso; simp_all; done) | simp_all
      have erf : bumpR rf (knowC n (nI P) (nI Q) v) = va_up rf 2 (rf 2 + 1) := by rw [hC]; exact bump_2 _
      have eSn : sK (gd (knowC n (nI P) (nI Q) v) (knF K (nI P).toNatClampNeg (nI Q).toNatClampNeg v) K) = sK K := by rw [hC]; first | rfl | (simp only [nI_clamp (n := P) (by omega), nI_clamp (n := Q) (by omega)]; rfl) | (simp only [gd_0, nI_clamp (n := P) (by omega), nI_clamp (n := Q) (by omega)]; split <;> first | rfl | contradiction) | (exfalso; omega)
      have hI := wI_w (ws' := xW E ad iv ch rd tp (bumpR rf (knowC n (nI P) (nI Q) v)) hd (adn 10) tr gr dy im ++ (tW E adn ivn hrn csn (sK (gd (knowC n (nI P) (nI Q) v) (knF K (nI P).toNatClampNeg (nI Q).toNatClampNeg v) K)))) (by rw [erf, eSn]; try rfl) hI
      exact hret () (-2) _ _ 0 0 _ _ dX0_know_25 hI (by show (-2) = gd (knowC n (nI P) (nI Q) v) (K (nI P).toNatClampNeg (nI Q).toNatClampNeg) (knowC n (nI P) (nI Q) v); rw [hC]; first | rfl | (simp only [nI_clamp (n := P) (by omega), nI_clamp (n := Q) (by omega)]; rfl) | (simp only [gd_0, nI_clamp (n := P) (by omega), nI_clamp (n := Q) (by omega)]; split <;> first | rfl | contradiction)) (Nat.le_of_ble_eq_true rfl) (Nat.le_of_ble_eq_true rfl) rfl
  · skip
    have c_3 : ¬ ((0 ≤ Int32.toInt x ∧ Int32.toInt x < (n : Int)) ∧ (0 ≤ Int32.toInt y ∧ Int32.toInt y < (n : Int)) ∧ ¬ x = y) := of_decide_eq_false c_3
    refine lv_if_eq (tgt := 19) hxR hbR dX0_know_6 (by decide) (fun _ => ?_) (fun c => absurd c (by decide))
    refine lv_aload_n hxR hbR dX0_know_19 rfl (lv_at hl 0 rfl) ?_
    refine lv_bipush (v := (-2)) hxR hbR dX0_know_20 (by decide) ?_
    refine kVI (n := 1) (As := [.int (-2)]) (rest := []) (fun w => w ++ (tW E adn ivn hrn csn (sK K))) hxR hbR hmlR hts hown hK hA hl.1 (isCtx.suf _) hI (c0_no l E ad iv ch rd tp rf hd (adn 10) tr gr dy im (-2) 2 (by decide) (by decide)) (lw_V q396 q398 qs2 q81 q399) ⟨rfl, by decide +kernel⟩ 8 0 rfl rfl xW_o rfl (Nat.le_of_ble_eq_true rfl) (Nat.le_of_ble_eq_true rfl) ⟨Nat.le_of_ble_eq_true rfl, Nat.le_of_ble_eq_true rfl⟩ (Nat.le_of_ble_eq_true rfl) dX0_know_22 (fun r_22 u H locs hp hI hz => ?_)
    have hI : wI E AR sR H locs (xW E ad iv ch rd tp (va_up rf 2 (rf 2 + 1)) hd (adn 10) tr gr dy im ++ (tW E adn ivn hrn csn (sK K))) := hI
    have hp : r_22 = (-2) := hp
    have hr_22 := hp
    subst hr_22
    have hC : knowC n x y v = (-2) := by
      clear hret hI
      unfold knowC
      repeat' split
      all_goals first | rfl | (exfalso; omega) | contradiction | (exfalso; simp_all; done) | simp_all
    have erf : bumpR rf (knowC n x y v) = va_up rf 2 (rf 2 + 1) := by rw [hC]; exact bump_2 _
    have eSn : sK (gd (knowC n x y v) (knF K x.toNatClampNeg y.toNatClampNeg v) K) = sK K := by rw [hC]; first | rfl | (simp only [gd_0]; split <;> first | rfl | contradiction) | (exfalso; omega)
    have hI := wI_w (ws' := xW E ad iv ch rd tp (bumpR rf (knowC n x y v)) hd (adn 10) tr gr dy im ++ (tW E adn ivn hrn csn (sK (gd (knowC n x y v) (knF K x.toNatClampNeg y.toNatClampNeg v) K)))) (by rw [erf, eSn]; try rfl) hI
    exact hret () (-2) _ _ 0 0 _ _ dX0_know_25 hI (by show (-2) = gd (knowC n x y v) (K x.toNatClampNeg y.toNatClampNeg) (knowC n x y v); rw [hC]; first | rfl | (simp only [gd_0]; split <;> first | rfl | contradiction)) (Nat.le_of_ble_eq_true rfl) (Nat.le_of_ble_eq_true rfl) rfl

theorem c0_knownOf (l : Launch) (E : En) (ad : Nat → Nat) (iv : Nat → Int32) (ch : Nat → Int32) (rd : Nat → Int32) (tp : Nat → Int32) (rf : Nat → Int32) (hd : Nat → Option Nat) (tr : Nat) (gr : Nat) (dy : Nat) (im : Option Nat) (adn : Nat → Nat) (ivn : Nat → Int32) (hrn : Nat → Int32) (csn : Nat → Int32) (K : Nat → Nat → Int32) (n : Nat) (x y : Int32) (hn : ivn 3 = nI n) (hn7 : n ≤ 7) : CtI l E yX0_knownOf cX0_knownOf 3 .int 4 0 0 [.ref (ad 11), .int x, .int y] (xW E ad iv ch rd tp rf hd (adn 10) tr gr dy im ++ (tW E adn ivn hrn csn (sK K))) (fun (r : Int32) (u : Unit) => r = gd (twoC n x y) (K x.toNatClampNeg y.toNatClampNeg) (twoC n x y)) (fun (u : Unit) => xW E ad iv ch rd tp (bumpR rf (twoC n x y)) hd (adn 10) tr gr dy im ++ (tW E adn ivn hrn csn (sK K))) := by
  refine CtI.of (by decide +kernel) (Nat.le_of_ble_eq_true rfl) ?_
  intro pR eR sR mR aR bR tR cR AR ls QR hxR hbR hmlR hts hown hlk hnm hA hK hI hl hret
  have hl : lv_has ls 3 [(0, .ref (ad 11)), (1, .int x), (2, .int y)] := hl
  refine lv_aload_n hxR hbR dX0_knownOf_0 rfl (lv_at hl 0 rfl) ?_
  refine lv_iload_n hxR hbR dX0_knownOf_1 rfl (lv_at hl 1 rfl) ?_
  refine lv_iload_n hxR hbR dX0_knownOf_2 rfl (lv_at hl 2 rfl) ?_
  refine kVI (n := 2) (As := [.int x, .int y]) (rest := []) (fun w => w) hxR hbR hmlR hts hown hK hA hl.1 isCtx.id hI (c0_areTwo l E ad iv ch rd tp rf hd tr gr dy im adn ivn hrn csn K n x y hn (by omega)) (lw_V q764 q766 qs7 q81 q767) ⟨rfl, by decide +kernel⟩ 8 0 rfl rfl (he_l xW_o) rfl (Nat.le_of_ble_eq_true rfl) (Nat.le_of_ble_eq_true rfl) ⟨Nat.le_of_ble_eq_true rfl, Nat.le_of_ble_eq_true rfl⟩ (Nat.le_of_ble_eq_true rfl) dX0_knownOf_3 (fun r_3 u H locs hp hI hz => ?_)
  have hI : wI E AR sR H locs (xW E ad iv ch rd tp rf hd (adn 10) tr gr dy im ++ (tW E adn ivn hrn csn (sK K))) := hI
  have hp : r_3 = b2i (decide ((0 ≤ x.toInt ∧ x.toInt < (n : Int)) ∧ (0 ≤ y.toInt ∧ y.toInt < (n : Int)) ∧ ¬ x = y)) := hp
  have hr_3 := hp
  rcases b2i_cases hr_3 with ⟨c_3, rfl⟩ | ⟨c_3, rfl⟩
  · skip
    have c_3 : (0 ≤ Int32.toInt x ∧ Int32.toInt x < (n : Int)) ∧ (0 ≤ Int32.toInt y ∧ Int32.toInt y < (n : Int)) ∧ ¬ x = y := of_decide_eq_true c_3
    obtain ⟨P, hP, rfl⟩ := nat_of c_3.1 (by omega)
    have tP : (nI P).toInt = (P : Int) := nI_toInt (by omega)
    obtain ⟨Q, hQ, rfl⟩ := nat_of c_3.2.1 (by omega)
    have tQ : (nI Q).toInt = (Q : Int) := nI_toInt (by omega)
    refine lv_if_eq (tgt := 21) hxR hbR dX0_knownOf_6 (by decide) (fun c => absurd c (by decide)) (fun _ => ?_)
    refine lv_aload_n hxR hbR dX0_knownOf_9 rfl (lv_at hl 0 rfl) ?_
    refine r_get hxR hbR hts hown hK hI okX0 (ci := 0) rfl 8 (he_l xW_o) 0 (by decide) q263 rfl (v := .ref (adn 10)) rfl dX0_knownOf_10 ?_
    refine lv_iload_n hxR hbR dX0_knownOf_13 rfl (lv_at hl 1 rfl) ?_
    refine lv_iload_n hxR hbR dX0_knownOf_14 rfl (lv_at hl 2 rfl) ?_
    refine kVI (n := 2) (As := [.int (nI P), .int (nI Q)]) (rest := []) (fun w => (xW E ad iv ch rd tp rf hd (adn 10) tr gr dy im) ++ w) hxR hbR hmlR hts hown hK hA hl.1 (isCtx.pre _) hI (c1_since l E adn ivn hrn csn K P Q (by first | omega | with_reducible assumption) (by first | omega | with_reducible assumption)) (lw_V q768 q639 q640 q82 q641) ⟨rfl, by decide +kernel⟩ 0 1 rfl rfl tW_o rfl (Nat.le_of_ble_eq_true rfl) (Nat.le_of_ble_eq_true rfl) ⟨Nat.le_of_ble_eq_true rfl, Nat.le_of_ble_eq_true rfl⟩ (Nat.le_of_ble_eq_true rfl) dX0_knownOf_15 (fun r_15 u H locs hp hI hz => ?_)
    have hI : wI E AR sR H locs (xW E ad iv ch rd tp rf hd (adn 10) tr gr dy im ++ (tW E adn ivn hrn csn (sK K))) := hI
    have hp : r_15 = K P Q := hp
    have hr_15 := hp
    subst hr_15
    refine lv_goto (tgt := 27) hxR hbR dX0_knownOf_18 (by decide) ?_
    have hC : twoC n (nI P) (nI Q) = 0 := by
      clear hret hI
      unfold twoC
      try simp only [nI_clamp (n := P) (by omega), nI_clamp (n := Q) (by omega)]
      repeat' split
      all_goals first | rfl | (exfalso; omega) | contradiction | (exfalso; simp_all; done) | simp_all
    have erf : bumpR rf (twoC n (nI P) (nI Q)) = rf := by rw [hC]; exact bump_0 _
    have hI := wI_w (ws' := xW E ad iv ch rd tp (bumpR rf (twoC n (nI P) (nI Q))) hd (adn 10) tr gr dy im ++ (tW E adn ivn hrn csn (sK K))) (by rw [erf]; try rfl) hI
    exact hret () (K P Q) _ _ 0 0 _ _ dX0_knownOf_27 hI (by show (K P Q) = gd (twoC n (nI P) (nI Q)) (K (nI P).toNatClampNeg (nI Q).toNatClampNeg) (twoC n (nI P) (nI Q)); rw [hC]; first | rfl | (simp only [nI_clamp (n := P) (by omega), nI_clamp (n := Q) (by omega)]; rfl) | (simp only [gd_0, nI_clamp (n := P) (by omega), nI_clamp (n := Q) (by omega)]; split <;> first | rfl | contradiction)) (Nat.le_of_ble_eq_true rfl) (Nat.le_of_ble_eq_true rfl) rfl
  · skip
    have c_3 : ¬ ((0 ≤ Int32.toInt x ∧ Int32.toInt x < (n : Int)) ∧ (0 ≤ Int32.toInt y ∧ Int32.toInt y < (n : Int)) ∧ ¬ x = y) := of_decide_eq_false c_3
    refine lv_if_eq (tgt := 21) hxR hbR dX0_knownOf_6 (by decide) (fun _ => ?_) (fun c => absurd c (by decide))
    refine lv_aload_n hxR hbR dX0_knownOf_21 rfl (lv_at hl 0 rfl) ?_
    refine lv_bipush (v := (-2)) hxR hbR dX0_knownOf_22 (by decide) ?_
    refine kVI (n := 1) (As := [.int (-2)]) (rest := []) (fun w => w ++ (tW E adn ivn hrn csn (sK K))) hxR hbR hmlR hts hown hK hA hl.1 (isCtx.suf _) hI (c0_no l E ad iv ch rd tp rf hd (adn 10) tr gr dy im (-2) 2 (by decide) (by decide)) (lw_V q396 q398 qs2 q81 q399) ⟨rfl, by decide +kernel⟩ 8 0 rfl rfl xW_o rfl (Nat.le_of_ble_eq_true rfl) (Nat.le_of_ble_eq_true rfl) ⟨Nat.le_of_ble_eq_true rfl, Nat.le_of_ble_eq_true rfl⟩ (Nat.le_of_ble_eq_true rfl) dX0_knownOf_24 (fun r_24 u H locs hp hI hz => ?_)
    have hI : wI E AR sR H locs (xW E ad iv ch rd tp (va_up rf 2 (rf 2 + 1)) hd (adn 10) tr gr dy im ++ (tW E adn ivn hrn csn (sK K))) := hI
    have hp : r_24 = (-2) := hp
    have hr_24 := hp
    subst hr_24
    have hC : twoC n x y = (-2) := by
      clear hret hI
      unfold twoC
      repeat' split
      all_goals first | rfl | (exfalso; omega) | contradiction | (exfalso; simp_all; done) | simp_all
    have erf : bumpR rf (twoC n x y) = va_up rf 2 (rf 2 + 1) := by rw [hC]; exact bump_2 _
    have hI := wI_w (ws' := xW E ad iv ch rd tp (bumpR rf (twoC n x y)) hd (adn 10) tr gr dy im ++ (tW E adn ivn hrn csn (sK K))) (by rw [erf]; try rfl) hI
    exact hret () (-2) _ _ 0 0 _ _ dX0_knownOf_27 hI (by show (-2) = gd (twoC n x y) (K x.toNatClampNeg y.toNatClampNeg) (twoC n x y); rw [hC]; first | rfl | (simp only [gd_0]; split <;> first | rfl | contradiction)) (Nat.le_of_ble_eq_true rfl) (Nat.le_of_ble_eq_true rfl) rfl

theorem c0_ask (l : Launch) (E : En) (ad : Nat → Nat) (iv : Nat → Int32) (ch : Nat → Int32) (rd : Nat → Int32) (tp : Nat → Int32) (rf : Nat → Int32) (hd : Nat → Option Nat) (tr : Nat) (gr : Nat) (dy : Nat) (im : Option Nat) (adn : Nat → Nat) (ivn : Nat → Int32) (hrn : Nat → Int32) (csn : Nat → Int32) (Sn : Nat → Int32) (w v : Int32)  : CtI l E yX0_ask cX0_ask 4 .int 2 0 0 [.ref (ad 11), .int w, .int v] (xW E ad iv ch rd tp rf hd (adn 10) tr gr dy im ++ (tW E adn ivn hrn csn Sn)) (fun (r : Int32) (u : Unit) => r = gd (askC w v) (if w = 0 then ivn 4 else ivn 5) (askC w v)) (fun (u : Unit) => xW E ad iv ch rd tp (bumpR rf (askC w v)) hd (adn 10) tr gr dy im ++ (tW E adn (va_up (va_up ivn 4 (gd (askC w v) (if w = 0 then v else ivn 4) (ivn 4))) 5 (gd (askC w v) (if w = 0 then ivn 5 else v) (ivn 5))) hrn csn Sn)) := by
  refine CtI.of (by decide +kernel) (Nat.le_of_ble_eq_true rfl) ?_
  intro pR eR sR mR aR bR tR cR AR ls QR hxR hbR hmlR hts hown hlk hnm hA hK hI hl hret
  have hl : lv_has ls 4 [(0, .ref (ad 11)), (1, .int w), (2, .int v)] := hl
  refine lv_iload_n hxR hbR dX0_ask_0 rfl (lv_at hl 1 rfl) ?_
  refine lv_iconst (v := 0) hxR hbR dX0_ask_1 (by decide) ?_
  refine lv_iconst (v := 1) hxR hbR dX0_ask_2 (by decide) ?_
  refine kSI (n := 3) (As := [.int w, .int 0, .int 1]) (rest := []) (fun w => w ++ (xW E ad iv ch rd tp rf hd (adn 10) tr gr dy im ++ (tW E adn ivn hrn csn Sn))) hxR hbR hmlR hts hown hK hA hl.1 (isCtx.suf _) hI (c0_isIn l E  w 0 1 ) (lw_S q393 q394 q81 q395) (by decide +kernel) rfl (Nat.le_of_ble_eq_true rfl) (Nat.le_of_ble_eq_true rfl) ⟨Nat.le_of_ble_eq_true rfl, Nat.le_of_ble_eq_true rfl⟩ (Nat.le_of_ble_eq_true rfl) dX0_ask_3 (fun r_3 u H locs hp hI hz => ?_)
  have hI : wI E AR sR H locs (xW E ad iv ch rd tp rf hd (adn 10) tr gr dy im ++ (tW E adn ivn hrn csn Sn)) := hI
  have hp : r_3 = b2i (decide (Int32.toInt 0 ≤ Int32.toInt w ∧ Int32.toInt w ≤ Int32.toInt 1)) := hp
  have hr_3 := hp
  rcases b2i_cases hr_3 with ⟨c_3, rfl⟩ | ⟨c_3, rfl⟩
  · skip
    have c_3 : Int32.toInt 0 ≤ Int32.toInt w ∧ Int32.toInt w ≤ Int32.toInt 1 := of_decide_eq_true c_3
    have c_3 : 0 ≤ w.toInt ∧ w.toInt ≤ 1 := by exact c_3
    refine lv_if_eq (tgt := 35) hxR hbR dX0_ask_6 (by decide) (fun c => absurd c (by decide)) (fun _ => ?_)
    refine lv_iload_n hxR hbR dX0_ask_9 rfl (lv_at hl 2 rfl) ?_
    refine lv_iload_n hxR hbR dX0_ask_10 rfl (lv_at hl 1 rfl) ?_
    refine lv_if_ne (tgt := 18) hxR hbR dX0_ask_11 (by decide) (fun c_11 => ?_) (fun c_11 => ?_)
    · skip
      have i_11 : ¬ (w.toInt = 0) := by have zz := mt i_eq.mpr c_11; exact zz
      refine lv_iconst (v := 0) hxR hbR dX0_ask_18 (by decide) ?_
      refine lv_iload_n hxR hbR dX0_ask_19 rfl (lv_at hl 1 rfl) ?_
      refine lv_if_ne (tgt := 27) hxR hbR dX0_ask_20 (by decide) (fun c_20 => ?_) (fun c_20 => ?_)
      · skip
        have i_20 : ¬ (w.toInt = 0) := by have zz := mt i_eq.mpr c_20; exact zz
        refine lv_bipush (v := 99) hxR hbR dX0_ask_27 (by decide) ?_
        refine kSI (n := 3) (As := [.int v, .int 0, .int 99]) (rest := []) (fun w => w ++ (xW E ad iv ch rd tp rf hd (adn 10) tr gr dy im ++ (tW E adn ivn hrn csn Sn))) hxR hbR hmlR hts hown hK hA hl.1 (isCtx.suf _) hI (c0_isIn l E  v 0 99 ) (lw_S q393 q394 q81 q395) (by decide +kernel) rfl (Nat.le_of_ble_eq_true rfl) (Nat.le_of_ble_eq_true rfl) ⟨Nat.le_of_ble_eq_true rfl, Nat.le_of_ble_eq_true rfl⟩ (Nat.le_of_ble_eq_true rfl) dX0_ask_29 (fun r_29 u H locs hp hI hz => ?_)
        have hI : wI E AR sR H locs (xW E ad iv ch rd tp rf hd (adn 10) tr gr dy im ++ (tW E adn ivn hrn csn Sn)) := hI
        have hp : r_29 = b2i (decide (Int32.toInt 0 ≤ Int32.toInt v ∧ Int32.toInt v ≤ Int32.toInt 99)) := hp
        have hr_29 := hp
        rcases b2i_cases hr_29 with ⟨c_29, rfl⟩ | ⟨c_29, rfl⟩
        · skip
          have c_29 : Int32.toInt 0 ≤ Int32.toInt v ∧ Int32.toInt v ≤ Int32.toInt 99 := of_decide_eq_true c_29
          have c_29 : 0 ≤ v.toInt ∧ v.toInt ≤ 99 := by exact c_29
          refine lv_if_ne (tgt := 42) hxR hbR dX0_ask_32 (by decide) (fun _ => ?_) (fun c => absurd c (by decide))
          refine lv_iload_n hxR hbR dX0_ask_42 rfl (lv_at hl 1 rfl) ?_
          refine lv_if_ne (tgt := 56) hxR hbR dX0_ask_43 (by decide) (fun c_43 => ?_) (fun c_43 => ?_)
          · skip
            have i_43 : ¬ (w.toInt = 0) := by have zz := mt i_eq.mpr c_43; exact zz
            refine lv_aload_n hxR hbR dX0_ask_56 rfl (lv_at hl 0 rfl) ?_
            refine r_get hxR hbR hts hown hK hI okX0 (ci := 0) rfl 8 (he_l xW_o) 0 (by decide) q263 rfl (v := .ref (adn 10)) rfl dX0_ask_57 ?_
            refine r_get hxR hbR hts hown hK hI okX1 (ci := 1) rfl (14 + 0) (he_r (Nat.le_of_ble_eq_true rfl) (Nat.le_of_ble_eq_true rfl) tW_o) 5 (by decide) q151 rfl (v := .int (ivn 5)) (al rfl) dX0_ask_60 ?_
            refine lv_istore_n (lv' := [(3, .int (ivn 5)), (0, .ref (ad 11)), (1, .int w), (2, .int v)]) hxR hbR dX0_ask_63 rfl hl (by decide) rfl (fun ls hl => ?_)
            refine lv_aload_n hxR hbR dX0_ask_64 rfl (lv_at hl 1 rfl) ?_
            refine r_get hxR hbR hts hown hK hI okX0 (ci := 0) rfl 8 (he_l xW_o) 0 (by decide) q263 rfl (v := .ref (adn 10)) rfl dX0_ask_65 ?_
            refine lv_iload_n hxR hbR dX0_ask_68 rfl (lv_at hl 2 rfl) ?_
            refine lv_if_ne (tgt := 76) hxR hbR dX0_ask_69 (by decide) (fun c_69 => ?_) (fun c_69 => ?_)
            · skip
              have i_69 : ¬ (w.toInt = 0) := by have zz := mt i_eq.mpr c_69; exact zz
              refine lv_aload_n hxR hbR dX0_ask_76 rfl (lv_at hl 1 rfl) ?_
              refine r_get hxR hbR hts hown hK hI okX0 (ci := 0) rfl 8 (he_l xW_o) 0 (by decide) q263 rfl (v := .ref (adn 10)) rfl dX0_ask_77 ?_
              refine r_get hxR hbR hts hown hK hI okX1 (ci := 1) rfl (14 + 0) (he_r (Nat.le_of_ble_eq_true rfl) (Nat.le_of_ble_eq_true rfl) tW_o) 4 (by decide) q148 rfl (v := .int (ivn 4)) (al rfl) dX0_ask_80 ?_
              refine r_put (v := .int (ivn 4)) (ws1 := xW E ad iv ch rd tp rf hd (adn 10) tr gr dy im ++ (tW E adn (va_up ivn 4 (ivn 4)) hrn csn Sn)) hxR hbR hts hown hK hI okX1 (ci := 1) rfl (14 + 0) (he_r (Nat.le_of_ble_eq_true rfl) (Nat.le_of_ble_eq_true rfl) tW_o) 4 (by decide) q148 rfl rfl rfl rfl (Nat.le_of_ble_eq_true rfl) (hw_r (Nat.le_of_ble_eq_true rfl) (Nat.le_of_ble_eq_true rfl) tW_i4) dX0_ask_83 (fun H locs hI => ?_)
              refine lv_aload_n hxR hbR dX0_ask_86 rfl (lv_at hl 1 rfl) ?_
              refine r_get hxR hbR hts hown hK hI okX0 (ci := 0) rfl 8 (he_l xW_o) 0 (by decide) q263 rfl (v := .ref (adn 10)) rfl dX0_ask_87 ?_
              refine lv_iload_n hxR hbR dX0_ask_90 rfl (lv_at hl 2 rfl) ?_
              refine lv_iconst (v := 1) hxR hbR dX0_ask_91 (by decide) ?_
              refine lv_icmp_ne (tgt := 99) hxR hbR dX0_ask_92 (by decide) (fun c_92 => ?_) (fun c_92 => ?_)
              · skip
                have i_92 : ¬ (w.toInt = 1) := by have zz := mt i_eq.mpr c_92; exact zz
                refine lv_aload_n hxR hbR dX0_ask_99 rfl (lv_at hl 1 rfl) ?_
                refine r_get hxR hbR hts hown hK hI okX0 (ci := 0) rfl 8 (he_l xW_o) 0 (by decide) q263 rfl (v := .ref (adn 10)) rfl dX0_ask_100 ?_
                refine r_get hxR hbR hts hown hK hI okX1 (ci := 1) rfl (14 + 0) (he_r (Nat.le_of_ble_eq_true rfl) (Nat.le_of_ble_eq_true rfl) tW_o) 5 (by decide) q151 rfl (v := .int (ivn 5)) (al (up_n (by decide) rfl)) dX0_ask_103 ?_
                refine r_put (v := .int (ivn 5)) (ws1 := xW E ad iv ch rd tp rf hd (adn 10) tr gr dy im ++ (tW E adn (va_up (va_up ivn 4 (ivn 4)) 5 (ivn 5)) hrn csn Sn)) hxR hbR hts hown hK hI okX1 (ci := 1) rfl (14 + 0) (he_r (Nat.le_of_ble_eq_true rfl) (Nat.le_of_ble_eq_true rfl) tW_o) 5 (by decide) q151 rfl rfl rfl rfl (Nat.le_of_ble_eq_true rfl) (hw_r (Nat.le_of_ble_eq_true rfl) (Nat.le_of_ble_eq_true rfl) tW_i5) dX0_ask_106 (fun H locs hI => ?_)
                refine lv_iload_n hxR hbR dX0_ask_109 rfl (lv_at hl 0 rfl) ?_
                have hC : askC w v = 0 := by
                  clear hret hI
                  unfold askC
                  repeat' split
                  all_goals first | rfl | (exfalso; omega) | contradiction | (exfalso; simp_all; done) | simp_all
                have erf : bumpR rf (askC w v) = rf := by rw [hC]; exact bump_0 _
                have eivn4 : gd (askC w v) (if w = 0 then v else ivn 4) (ivn 4) = ivn 4 := by rw [hC]; first | rfl | (simp only [gd_0]; split <;> first | rfl | contradiction) | (exfalso; omega)
                have eivn5 : gd (askC w v) (if w = 0 then ivn 5 else v) (ivn 5) = ivn 5 := by rw [hC]; first | rfl | (simp only [gd_0]; split <;> first | rfl | contradiction) | (exfalso; omega)
                have hI := wI_w (ws' := xW E ad iv ch rd tp (bumpR rf (askC w v)) hd (adn 10) tr gr dy im ++ (tW E adn (va_up (va_up ivn 4 (gd (askC w v) (if w = 0 then v else ivn 4) (ivn 4))) 5 (gd (askC w v) (if w = 0 then ivn 5 else v) (ivn 5))) hrn csn Sn)) (by rw [erf, eivn4, eivn5]; try rfl) hI
                exact hret () (ivn 5) _ _ 0 0 _ _ dX0_ask_110 hI (by show (ivn 5) = gd (askC w v) (if w = 0 then ivn 4 else ivn 5) (askC w v); rw [hC]; first | rfl | (simp only [gd_0]; split <;> first | rfl | contradiction)) (Nat.le_of_ble_eq_true rfl) (Nat.le_of_ble_eq_true rfl) rfl
              · skip
                have i_92 : w.toInt = 1 := by have zz := i_eq.mp c_92; exact zz
                refine lv_iload_n hxR hbR dX0_ask_95 rfl (lv_at hl 3 rfl) ?_
                refine lv_goto (tgt := 106) hxR hbR dX0_ask_96 (by decide) ?_
                refine r_put (v := .int v) (ws1 := xW E ad iv ch rd tp rf hd (adn 10) tr gr dy im ++ (tW E adn (va_up (va_up ivn 4 (ivn 4)) 5 v) hrn csn Sn)) hxR hbR hts hown hK hI okX1 (ci := 1) rfl (14 + 0) (he_r (Nat.le_of_ble_eq_true rfl) (Nat.le_of_ble_eq_true rfl) tW_o) 5 (by decide) q151 rfl rfl rfl rfl (Nat.le_of_ble_eq_true rfl) (hw_r (Nat.le_of_ble_eq_true rfl) (Nat.le_of_ble_eq_true rfl) tW_i5) dX0_ask_106 (fun H locs hI => ?_)
                refine lv_iload_n hxR hbR dX0_ask_109 rfl (lv_at hl 0 rfl) ?_
                have hC : askC w v = 0 := by
                  clear hret hI
                  unfold askC
                  repeat' split
                  all_goals first | rfl | (exfalso; omega) | contradiction | (exfalso; simp_all; done) | simp_all
                have erf : bumpR rf (askC w v) = rf := by rw [hC]; exact bump_0 _
                have eivn4 : gd (askC w v) (if w = 0 then v else ivn 4) (ivn 4) = ivn 4 := by rw [hC]; first | rfl | (simp only [gd_0]; split <;> first | rfl | contradiction) | (exfalso; omega)
                have eivn5 : gd (askC w v) (if w = 0 then ivn 5 else v) (ivn 5) = v := by rw [hC]; first | rfl | (simp only [gd_0]; split <;> first | rfl | contradiction) | (exfalso; omega)
                have hI := wI_w (ws' := xW E ad iv ch rd tp (bumpR rf (askC w v)) hd (adn 10) tr gr dy im ++ (tW E adn (va_up (va_up ivn 4 (gd (askC w v) (if w = 0 then v else ivn 4) (ivn 4))) 5 (gd (askC w v) (if w = 0 then ivn 5 else v) (ivn 5))) hrn csn Sn)) (by rw [erf, eivn4, eivn5]; try rfl) hI
                exact hret () (ivn 5) _ _ 0 0 _ _ dX0_ask_110 hI (by show (ivn 5) = gd (askC w v) (if w = 0 then ivn 4 else ivn 5) (askC w v); rw [hC]; first | rfl | (simp only [gd_0]; split <;> first | rfl | contradiction)) (Nat.le_of_ble_eq_true rfl) (Nat.le_of_ble_eq_true rfl) rfl
            · skip
              have i_69 : w.toInt = 0 := by have zz := i_eq.mp c_69; exact zz
              refine lv_iload_n hxR hbR dX0_ask_72 rfl (lv_at hl 3 rfl) ?_
              refine lv_goto (tgt := 83) hxR hbR dX0_ask_73 (by decide) ?_
              refine r_put (v := .int v) (ws1 := xW E ad iv ch rd tp rf hd (adn 10) tr gr dy im ++ (tW E adn (va_up ivn 4 v) hrn csn Sn)) hxR hbR hts hown hK hI okX1 (ci := 1) rfl (14 + 0) (he_r (Nat.le_of_ble_eq_true rfl) (Nat.le_of_ble_eq_true rfl) tW_o) 4 (by decide) q148 rfl rfl rfl rfl (Nat.le_of_ble_eq_true rfl) (hw_r (Nat.le_of_ble_eq_true rfl) (Nat.le_of_ble_eq_true rfl) tW_i4) dX0_ask_83 (fun H locs hI => ?_)
              refine lv_aload_n hxR hbR dX0_ask_86 rfl (lv_at hl 1 rfl) ?_
              refine r_get hxR hbR hts hown hK hI okX0 (ci := 0) rfl 8 (he_l xW_o) 0 (by decide) q263 rfl (v := .ref (adn 10)) rfl dX0_ask_87 ?_
              refine lv_iload_n hxR hbR dX0_ask_90 rfl (lv_at hl 2 rfl) ?_
              refine lv_iconst (v := 1) hxR hbR dX0_ask_91 (by decide) ?_
              refine lv_icmp_ne (tgt := 99) hxR hbR dX0_ask_92 (by decide) (fun c_92 => ?_) (fun c_92 => ?_)
              · skip
                have i_92 : ¬ (w.toInt = 1) := by have zz := mt i_eq.mpr c_92; exact zz
                refine lv_aload_n hxR hbR dX0_ask_99 rfl (lv_at hl 1 rfl) ?_
                refine r_get hxR hbR hts hown hK hI okX0 (ci := 0) rfl 8 (he_l xW_o) 0 (by decide) q263 rfl (v := .ref (adn 10)) rfl dX0_ask_100 ?_
                refine r_get hxR hbR hts hown hK hI okX1 (ci := 1) rfl (14 + 0) (he_r (Nat.le_of_ble_eq_true rfl) (Nat.le_of_ble_eq_true rfl) tW_o) 5 (by decide) q151 rfl (v := .int (ivn 5)) (al (up_n (by decide) rfl)) dX0_ask_103 ?_
                refine r_put (v := .int (ivn 5)) (ws1 := xW E ad iv ch rd tp rf hd (adn 10) tr gr dy im ++ (tW E adn (va_up (va_up ivn 4 v) 5 (ivn 5)) hrn csn Sn)) hxR hbR hts hown hK hI okX1 (ci := 1) rfl (14 + 0) (he_r (Nat.le_of_ble_eq_true rfl) (Nat.le_of_ble_eq_true rfl) tW_o) 5 (by decide) q151 rfl rfl rfl rfl (Nat.le_of_ble_eq_true rfl) (hw_r (Nat.le_of_ble_eq_true rfl) (Nat.le_of_ble_eq_true rfl) tW_i5) dX0_ask_106 (fun H locs hI => ?_)
                refine lv_iload_n hxR hbR dX0_ask_109 rfl (lv_at hl 0 rfl) ?_
                have hC : askC w v = 0 := by
                  clear hret hI
                  unfold askC
                  repeat' split
                  all_goals first | rfl | (exfalso; omega) | contradiction | (exfalso; simp_all; done) | simp_all
                have erf : bumpR rf (askC w v) = rf := by rw [hC]; exact bump_0 _
                have eivn4 : gd (askC w v) (if w = 0 then v else ivn 4) (ivn 4) = v := by rw [hC]; first | rfl | (simp only [gd_0]; split <;> first | rfl | contradiction) | (exfalso; omega)
                have eivn5 : gd (askC w v) (if w = 0 then ivn 5 else v) (ivn 5) = ivn 5 := by rw [hC]; first | rfl | (simp only [gd_0]; split <;> first | rfl | contradiction) | (exfalso; omega)
                have hI := wI_w (ws' := xW E ad iv ch rd tp (bumpR rf (askC w v)) hd (adn 10) tr gr dy im ++ (tW E adn (va_up (va_up ivn 4 (gd (askC w v) (if w = 0 then v else ivn 4) (ivn 4))) 5 (gd (askC w v) (if w = 0 then ivn 5 else v) (ivn 5))) hrn csn Sn)) (by rw [erf, eivn4, eivn5]; try rfl) hI
                exact hret () (ivn 5) _ _ 0 0 _ _ dX0_ask_110 hI (by show (ivn 5) = gd (askC w v) (if w = 0 then ivn 4 else ivn 5) (askC w v); rw [hC]; first | rfl | (simp only [gd_0]; split <;> first | rfl | contradiction)) (Nat.le_of_ble_eq_true rfl) (Nat.le_of_ble_eq_true rfl) rfl
              · skip
                have i_92 : w.toInt = 1 := by have zz := i_eq.mp c_92; exact zz
                refine lv_iload_n hxR hbR dX0_ask_95 rfl (lv_at hl 3 rfl) ?_
                refine lv_goto (tgt := 106) hxR hbR dX0_ask_96 (by decide) ?_
                refine r_put (v := .int v) (ws1 := xW E ad iv ch rd tp rf hd (adn 10) tr gr dy im ++ (tW E adn (va_up (va_up ivn 4 v) 5 v) hrn csn Sn)) hxR hbR hts hown hK hI okX1 (ci := 1) rfl (14 + 0) (he_r (Nat.le_of_ble_eq_true rfl) (Nat.le_of_ble_eq_true rfl) tW_o) 5 (by decide) q151 rfl rfl rfl rfl (Nat.le_of_ble_eq_true rfl) (hw_r (Nat.le_of_ble_eq_true rfl) (Nat.le_of_ble_eq_true rfl) tW_i5) dX0_ask_106 (fun H locs hI => ?_)
                refine lv_iload_n hxR hbR dX0_ask_109 rfl (lv_at hl 0 rfl) ?_
                have hC : askC w v = 0 := by
                  clear hret hI
                  unfold askC
                  repeat' split
                  all_goals first | rfl | (exfalso; omega) | contradiction | (exfalso; simp_all; done) | simp_all
                have erf : bumpR rf (askC w v) = rf := by rw [hC]; exact bump_0 _
                have eivn4 : gd (askC w v) (if w = 0 then v else ivn 4) (ivn 4) = v := by rw [hC]; first | rfl | (simp only [gd_0]; split <;> first | rfl | contradiction) | (exfalso; omega)
                have eivn5 : gd (askC w v) (if w = 0 then ivn 5 else v) (ivn 5) = v := by rw [hC]; first | rfl | (simp only [gd_0]; split <;> first | rfl | contradiction) | (exfalso; omega)
                have hI := wI_w (ws' := xW E ad iv ch rd tp (bumpR rf (askC w v)) hd (adn 10) tr gr dy im ++ (tW E adn (va_up (va_up ivn 4 (gd (askC w v) (if w = 0 then v else ivn 4) (ivn 4))) 5 (gd (askC w v) (if w = 0 then ivn 5 else v) (ivn 5))) hrn csn Sn)) (by rw [erf, eivn4, eivn5]; try rfl) hI
                exact hret () (ivn 5) _ _ 0 0 _ _ dX0_ask_110 hI (by show (ivn 5) = gd (askC w v) (if w = 0 then ivn 4 else ivn 5) (askC w v); rw [hC]; first | rfl | (simp only [gd_0]; split <;> first | rfl | contradiction)) (Nat.le_of_ble_eq_true rfl) (Nat.le_of_ble_eq_true rfl) rfl
          · skip
            have i_43 : w.toInt = 0 := by have zz := i_eq.mp c_43; exact zz
            refine lv_aload_n hxR hbR dX0_ask_46 rfl (lv_at hl 0 rfl) ?_
            refine r_get hxR hbR hts hown hK hI okX0 (ci := 0) rfl 8 (he_l xW_o) 0 (by decide) q263 rfl (v := .ref (adn 10)) rfl dX0_ask_47 ?_
            refine r_get hxR hbR hts hown hK hI okX1 (ci := 1) rfl (14 + 0) (he_r (Nat.le_of_ble_eq_true rfl) (Nat.le_of_ble_eq_true rfl) tW_o) 4 (by decide) q148 rfl (v := .int (ivn 4)) (al rfl) dX0_ask_50 ?_
            refine lv_goto (tgt := 63) hxR hbR dX0_ask_53 (by decide) ?_
            refine lv_istore_n (lv' := [(3, .int (ivn 4)), (0, .ref (ad 11)), (1, .int w), (2, .int v)]) hxR hbR dX0_ask_63 rfl hl (by decide) rfl (fun ls hl => ?_)
            refine lv_aload_n hxR hbR dX0_ask_64 rfl (lv_at hl 1 rfl) ?_
            refine r_get hxR hbR hts hown hK hI okX0 (ci := 0) rfl 8 (he_l xW_o) 0 (by decide) q263 rfl (v := .ref (adn 10)) rfl dX0_ask_65 ?_
            refine lv_iload_n hxR hbR dX0_ask_68 rfl (lv_at hl 2 rfl) ?_
            refine lv_if_ne (tgt := 76) hxR hbR dX0_ask_69 (by decide) (fun c_69 => ?_) (fun c_69 => ?_)
            · skip
              have i_69 : ¬ (w.toInt = 0) := by have zz := mt i_eq.mpr c_69; exact zz
              refine lv_aload_n hxR hbR dX0_ask_76 rfl (lv_at hl 1 rfl) ?_
              refine r_get hxR hbR hts hown hK hI okX0 (ci := 0) rfl 8 (he_l xW_o) 0 (by decide) q263 rfl (v := .ref (adn 10)) rfl dX0_ask_77 ?_
              refine r_get hxR hbR hts hown hK hI okX1 (ci := 1) rfl (14 + 0) (he_r (Nat.le_of_ble_eq_true rfl) (Nat.le_of_ble_eq_true rfl) tW_o) 4 (by decide) q148 rfl (v := .int (ivn 4)) (al rfl) dX0_ask_80 ?_
              refine r_put (v := .int (ivn 4)) (ws1 := xW E ad iv ch rd tp rf hd (adn 10) tr gr dy im ++ (tW E adn (va_up ivn 4 (ivn 4)) hrn csn Sn)) hxR hbR hts hown hK hI okX1 (ci := 1) rfl (14 + 0) (he_r (Nat.le_of_ble_eq_true rfl) (Nat.le_of_ble_eq_true rfl) tW_o) 4 (by decide) q148 rfl rfl rfl rfl (Nat.le_of_ble_eq_true rfl) (hw_r (Nat.le_of_ble_eq_true rfl) (Nat.le_of_ble_eq_true rfl) tW_i4) dX0_ask_83 (fun H locs hI => ?_)
              refine lv_aload_n hxR hbR dX0_ask_86 rfl (lv_at hl 1 rfl) ?_
              refine r_get hxR hbR hts hown hK hI okX0 (ci := 0) rfl 8 (he_l xW_o) 0 (by decide) q263 rfl (v := .ref (adn 10)) rfl dX0_ask_87 ?_
              refine lv_iload_n hxR hbR dX0_ask_90 rfl (lv_at hl 2 rfl) ?_
              refine lv_iconst (v := 1) hxR hbR dX0_ask_91 (by decide) ?_
              refine lv_icmp_ne (tgt := 99) hxR hbR dX0_ask_92 (by decide) (fun c_92 => ?_) (fun c_92 => ?_)
              · skip
                have i_92 : ¬ (w.toInt = 1) := by have zz := mt i_eq.mpr c_92; exact zz
                refine lv_aload_n hxR hbR dX0_ask_99 rfl (lv_at hl 1 rfl) ?_
                refine r_get hxR hbR hts hown hK hI okX0 (ci := 0) rfl 8 (he_l xW_o) 0 (by decide) q263 rfl (v := .ref (adn 10)) rfl dX0_ask_100 ?_
                refine r_get hxR hbR hts hown hK hI okX1 (ci := 1) rfl (14 + 0) (he_r (Nat.le_of_ble_eq_true rfl) (Nat.le_of_ble_eq_true rfl) tW_o) 5 (by decide) q151 rfl (v := .int (ivn 5)) (al (up_n (by decide) rfl)) dX0_ask_103 ?_
                refine r_put (v := .int (ivn 5)) (ws1 := xW E ad iv ch rd tp rf hd (adn 10) tr gr dy im ++ (tW E adn (va_up (va_up ivn 4 (ivn 4)) 5 (ivn 5)) hrn csn Sn)) hxR hbR hts hown hK hI okX1 (ci := 1) rfl (14 + 0) (he_r (Nat.le_of_ble_eq_true rfl) (Nat.le_of_ble_eq_true rfl) tW_o) 5 (by decide) q151 rfl rfl rfl rfl (Nat.le_of_ble_eq_true rfl) (hw_r (Nat.le_of_ble_eq_true rfl) (Nat.le_of_ble_eq_true rfl) tW_i5) dX0_ask_106 (fun H locs hI => ?_)
                refine lv_iload_n hxR hbR dX0_ask_109 rfl (lv_at hl 0 rfl) ?_
                have hC : askC w v = 0 := by
                  clear hret hI
                  unfold askC
                  repeat' split
                  all_goals first | rfl | (exfalso; omega) | contradiction | (exfalso; simp_all; done) | simp_all
                have erf : bumpR rf (askC w v) = rf := by rw [hC]; exact bump_0 _
                have eivn4 : gd (askC w v) (if w = 0 then v else ivn 4) (ivn 4) = ivn 4 := by rw [hC]; first | rfl | (simp only [gd_0]; split <;> first | rfl | contradiction) | (exfalso; omega)
                have eivn5 : gd (askC w v) (if w = 0 then ivn 5 else v) (ivn 5) = ivn 5 := by rw [hC]; first | rfl | (simp only [gd_0]; split <;> first | rfl | contradiction) | (exfalso; omega)
                have hI := wI_w (ws' := xW E ad iv ch rd tp (bumpR rf (askC w v)) hd (adn 10) tr gr dy im ++ (tW E adn (va_up (va_up ivn 4 (gd (askC w v) (if w = 0 then v else ivn 4) (ivn 4))) 5 (gd (askC w v) (if w = 0 then ivn 5 else v) (ivn 5))) hrn csn Sn)) (by rw [erf, eivn4, eivn5]; try rfl) hI
                exact hret () (ivn 4) _ _ 0 0 _ _ dX0_ask_110 hI (by show (ivn 4) = gd (askC w v) (if w = 0 then ivn 4 else ivn 5) (askC w v); rw [hC]; first | rfl | (simp only [gd_0]; split <;> first | rfl | contradiction)) (Nat.le_of_ble_eq_true rfl) (Nat.le_of_ble_eq_true rfl) rfl
              · skip
                have i_92 : w.toInt = 1 := by have zz := i_eq.mp c_92; exact zz
                refine lv_iload_n hxR hbR dX0_ask_95 rfl (lv_at hl 3 rfl) ?_
                refine lv_goto (tgt := 106) hxR hbR dX0_ask_96 (by decide) ?_
                refine r_put (v := .int v) (ws1 := xW E ad iv ch rd tp rf hd (adn 10) tr gr dy im ++ (tW E adn (va_up (va_up ivn 4 (ivn 4)) 5 v) hrn csn Sn)) hxR hbR hts hown hK hI okX1 (ci := 1) rfl (14 + 0) (he_r (Nat.le_of_ble_eq_true rfl) (Nat.le_of_ble_eq_true rfl) tW_o) 5 (by decide) q151 rfl rfl rfl rfl (Nat.le_of_ble_eq_true rfl) (hw_r (Nat.le_of_ble_eq_true rfl) (Nat.le_of_ble_eq_true rfl) tW_i5) dX0_ask_106 (fun H locs hI => ?_)
                refine lv_iload_n hxR hbR dX0_ask_109 rfl (lv_at hl 0 rfl) ?_
                have hC : askC w v = 0 := by
                  clear hret hI
                  unfold askC
                  repeat' split
                  all_goals first | rfl | (exfalso; omega) | contradiction | (exfalso; simp_all; done) | simp_all
                have erf : bumpR rf (askC w v) = rf := by rw [hC]; exact bump_0 _
                have eivn4 : gd (askC w v) (if w = 0 then v else ivn 4) (ivn 4) = ivn 4 := by rw [hC]; first | rfl | (simp only [gd_0]; split <;> first | rfl | contradiction) | (exfalso; omega)
                have eivn5 : gd (askC w v) (if w = 0 then ivn 5 else v) (ivn 5) = v := by rw [hC]; first | rfl | (simp only [gd_0]; split <;> first | rfl | contradiction) | (exfalso; omega)
                have hI := wI_w (ws' := xW E ad iv ch rd tp (bumpR rf (askC w v)) hd (adn 10) tr gr dy im ++ (tW E adn (va_up (va_up ivn 4 (gd (askC w v) (if w = 0 then v else ivn 4) (ivn 4))) 5 (gd (askC w v) (if w = 0 then ivn 5 else v) (ivn 5))) hrn csn Sn)) (by rw [erf, eivn4, eivn5]; try rfl) hI
                exact hret () (ivn 4) _ _ 0 0 _ _ dX0_ask_110 hI (by show (ivn 4) = gd (askC w v) (if w = 0 then ivn 4 else ivn 5) (askC w v); rw [hC]; first | rfl | (simp only [gd_0]; split <;> first | rfl | contradiction)) (Nat.le_of_ble_eq_true rfl) (Nat.le_of_ble_eq_true rfl) rfl
            · skip
              have i_69 : w.toInt = 0 := by have zz := i_eq.mp c_69; exact zz
              refine lv_iload_n hxR hbR dX0_ask_72 rfl (lv_at hl 3 rfl) ?_
              refine lv_goto (tgt := 83) hxR hbR dX0_ask_73 (by decide) ?_
              refine r_put (v := .int v) (ws1 := xW E ad iv ch rd tp rf hd (adn 10) tr gr dy im ++ (tW E adn (va_up ivn 4 v) hrn csn Sn)) hxR hbR hts hown hK hI okX1 (ci := 1) rfl (14 + 0) (he_r (Nat.le_of_ble_eq_true rfl) (Nat.le_of_ble_eq_true rfl) tW_o) 4 (by decide) q148 rfl rfl rfl rfl (Nat.le_of_ble_eq_true rfl) (hw_r (Nat.le_of_ble_eq_true rfl) (Nat.le_of_ble_eq_true rfl) tW_i4) dX0_ask_83 (fun H locs hI => ?_)
              refine lv_aload_n hxR hbR dX0_ask_86 rfl (lv_at hl 1 rfl) ?_
              refine r_get hxR hbR hts hown hK hI okX0 (ci := 0) rfl 8 (he_l xW_o) 0 (by decide) q263 rfl (v := .ref (adn 10)) rfl dX0_ask_87 ?_
              refine lv_iload_n hxR hbR dX0_ask_90 rfl (lv_at hl 2 rfl) ?_
              refine lv_iconst (v := 1) hxR hbR dX0_ask_91 (by decide) ?_
              refine lv_icmp_ne (tgt := 99) hxR hbR dX0_ask_92 (by decide) (fun c_92 => ?_) (fun c_92 => ?_)
              · skip
                have i_92 : ¬ (w.toInt = 1) := by have zz := mt i_eq.mpr c_92; exact zz
                refine lv_aload_n hxR hbR dX0_ask_99 rfl (lv_at hl 1 rfl) ?_
                refine r_get hxR hbR hts hown hK hI okX0 (ci := 0) rfl 8 (he_l xW_o) 0 (by decide) q263 rfl (v := .ref (adn 10)) rfl dX0_ask_100 ?_
                refine r_get hxR hbR hts hown hK hI okX1 (ci := 1) rfl (14 + 0) (he_r (Nat.le_of_ble_eq_true rfl) (Nat.le_of_ble_eq_true rfl) tW_o) 5 (by decide) q151 rfl (v := .int (ivn 5)) (al (up_n (by decide) rfl)) dX0_ask_103 ?_
                refine r_put (v := .int (ivn 5)) (ws1 := xW E ad iv ch rd tp rf hd (adn 10) tr gr dy im ++ (tW E adn (va_up (va_up ivn 4 v) 5 (ivn 5)) hrn csn Sn)) hxR hbR hts hown hK hI okX1 (ci := 1) rfl (14 + 0) (he_r (Nat.le_of_ble_eq_true rfl) (Nat.le_of_ble_eq_true rfl) tW_o) 5 (by decide) q151 rfl rfl rfl rfl (Nat.le_of_ble_eq_true rfl) (hw_r (Nat.le_of_ble_eq_true rfl) (Nat.le_of_ble_eq_true rfl) tW_i5) dX0_ask_106 (fun H locs hI => ?_)
                refine lv_iload_n hxR hbR dX0_ask_109 rfl (lv_at hl 0 rfl) ?_
                have hC : askC w v = 0 := by
                  clear hret hI
                  unfold askC
                  repeat' split
                  all_goals first | rfl | (exfalso; omega) | contradiction | (exfalso; simp_all; done) | simp_all
                have erf : bumpR rf (askC w v) = rf := by rw [hC]; exact bump_0 _
                have eivn4 : gd (askC w v) (if w = 0 then v else ivn 4) (ivn 4) = v := by rw [hC]; first | rfl | (simp only [gd_0]; split <;> first | rfl | contradiction) | (exfalso; omega)
                have eivn5 : gd (askC w v) (if w = 0 then ivn 5 else v) (ivn 5) = ivn 5 := by rw [hC]; first | rfl | (simp only [gd_0]; split <;> first | rfl | contradiction) | (exfalso; omega)
                have hI := wI_w (ws' := xW E ad iv ch rd tp (bumpR rf (askC w v)) hd (adn 10) tr gr dy im ++ (tW E adn (va_up (va_up ivn 4 (gd (askC w v) (if w = 0 then v else ivn 4) (ivn 4))) 5 (gd (askC w v) (if w = 0 then ivn 5 else v) (ivn 5))) hrn csn Sn)) (by rw [erf, eivn4, eivn5]; try rfl) hI
                exact hret () (ivn 4) _ _ 0 0 _ _ dX0_ask_110 hI (by show (ivn 4) = gd (askC w v) (if w = 0 then ivn 4 else ivn 5) (askC w v); rw [hC]; first | rfl | (simp only [gd_0]; split <;> first | rfl | contradiction)) (Nat.le_of_ble_eq_true rfl) (Nat.le_of_ble_eq_true rfl) rfl
              · skip
                have i_92 : w.toInt = 1 := by have zz := i_eq.mp c_92; exact zz
                refine lv_iload_n hxR hbR dX0_ask_95 rfl (lv_at hl 3 rfl) ?_
                refine lv_goto (tgt := 106) hxR hbR dX0_ask_96 (by decide) ?_
                refine r_put (v := .int v) (ws1 := xW E ad iv ch rd tp rf hd (adn 10) tr gr dy im ++ (tW E adn (va_up (va_up ivn 4 v) 5 v) hrn csn Sn)) hxR hbR hts hown hK hI okX1 (ci := 1) rfl (14 + 0) (he_r (Nat.le_of_ble_eq_true rfl) (Nat.le_of_ble_eq_true rfl) tW_o) 5 (by decide) q151 rfl rfl rfl rfl (Nat.le_of_ble_eq_true rfl) (hw_r (Nat.le_of_ble_eq_true rfl) (Nat.le_of_ble_eq_true rfl) tW_i5) dX0_ask_106 (fun H locs hI => ?_)
                refine lv_iload_n hxR hbR dX0_ask_109 rfl (lv_at hl 0 rfl) ?_
                have hC : askC w v = 0 := by
                  clear hret hI
                  unfold askC
                  repeat' split
                  all_goals first | rfl | (exfalso; omega) | contradiction | (exfalso; simp_all; done) | simp_all
                have erf : bumpR rf (askC w v) = rf := by rw [hC]; exact bump_0 _
                have eivn4 : gd (askC w v) (if w = 0 then v else ivn 4) (ivn 4) = v := by rw [hC]; first | rfl | (simp only [gd_0]; split <;> first | rfl | contradiction) | (exfalso; omega)
                have eivn5 : gd (askC w v) (if w = 0 then ivn 5 else v) (ivn 5) = v := by rw [hC]; first | rfl | (simp only [gd_0]; split <;> first | rfl | contradiction) | (exfalso; omega)
                have hI := wI_w (ws' := xW E ad iv ch rd tp (bumpR rf (askC w v)) hd (adn 10) tr gr dy im ++ (tW E adn (va_up (va_up ivn 4 (gd (askC w v) (if w = 0 then v else ivn 4) (ivn 4))) 5 (gd (askC w v) (if w = 0 then ivn 5 else v) (ivn 5))) hrn csn Sn)) (by rw [erf, eivn4, eivn5]; try rfl) hI
                exact hret () (ivn 4) _ _ 0 0 _ _ dX0_ask_110 hI (by show (ivn 4) = gd (askC w v) (if w = 0 then ivn 4 else ivn 5) (askC w v); rw [hC]; first | rfl | (simp only [gd_0]; split <;> first | rfl | contradiction)) (Nat.le_of_ble_eq_true rfl) (Nat.le_of_ble_eq_true rfl) rfl
        · skip
          have c_29 : ¬ (Int32.toInt 0 ≤ Int32.toInt v ∧ Int32.toInt v ≤ Int32.toInt 99) := of_decide_eq_false c_29
          have c_29 : ¬ (0 ≤ v.toInt ∧ v.toInt ≤ 99) := by exact c_29
          refine lv_if_ne (tgt := 42) hxR hbR dX0_ask_32 (by decide) (fun c => absurd c (by decide)) (fun _ => ?_)
          refine lv_aload_n hxR hbR dX0_ask_35 rfl (lv_at hl 0 rfl) ?_
          refine lv_bipush (v := (-2)) hxR hbR dX0_ask_36 (by decide) ?_
          refine kVI (n := 1) (As := [.int (-2)]) (rest := []) (fun w => w ++ (tW E adn ivn hrn csn Sn)) hxR hbR hmlR hts hown hK hA hl.1 (isCtx.suf _) hI (c0_no l E ad iv ch rd tp rf hd (adn 10) tr gr dy im (-2) 2 (by decide) (by decide)) (lw_V q396 q398 qs2 q81 q399) ⟨rfl, by decide +kernel⟩ 8 0 rfl rfl xW_o rfl (Nat.le_of_ble_eq_true rfl) (Nat.le_of_ble_eq_true rfl) ⟨Nat.le_of_ble_eq_true rfl, Nat.le_of_ble_eq_true rfl⟩ (Nat.le_of_ble_eq_true rfl) dX0_ask_38 (fun r_38 u H locs hp hI hz => ?_)
          have hI : wI E AR sR H locs (xW E ad iv ch rd tp (va_up rf 2 (rf 2 + 1)) hd (adn 10) tr gr dy im ++ (tW E adn ivn hrn csn Sn)) := hI
          have hp : r_38 = (-2) := hp
          have hr_38 := hp
          subst hr_38
          have hC : askC w v = (-2) := by
            clear hret hI
            unfold askC
            repeat' split
            all_goals first | rfl | (exfalso; omega) | contradiction | (exfalso; simp_all; done) | simp_all
          have erf : bumpR rf (askC w v) = va_up rf 2 (rf 2 + 1) := by rw [hC]; exact bump_2 _
          have eivn4 : gd (askC w v) (if w = 0 then v else ivn 4) (ivn 4) = ivn 4 := by rw [hC]; first | rfl | (simp only [gd_0]; split <;> first | rfl | contradiction) | (exfalso; omega)
          have eivn5 : gd (askC w v) (if w = 0 then ivn 5 else v) (ivn 5) = ivn 5 := by rw [hC]; first | rfl | (simp only [gd_0]; split <;> first | rfl | contradiction) | (exfalso; omega)
          have hI := wI_w (ws' := xW E ad iv ch rd tp (bumpR rf (askC w v)) hd (adn 10) tr gr dy im ++ (tW E adn (va_up (va_up ivn 4 (gd (askC w v) (if w = 0 then v else ivn 4) (ivn 4))) 5 (gd (askC w v) (if w = 0 then ivn 5 else v) (ivn 5))) hrn csn Sn)) (by rw [erf, eivn4, eivn5, va_up_id (f := ivn) (k := 4) (v := ivn 4) rfl, va_up_id (f := ivn) (k := 5) (v := ivn 5) rfl]; try rfl) hI
          exact hret () (-2) _ _ 0 0 _ _ dX0_ask_41 hI (by show (-2) = gd (askC w v) (if w = 0 then ivn 4 else ivn 5) (askC w v); rw [hC]; first | rfl | (simp only [gd_0]; split <;> first | rfl | contradiction)) (Nat.le_of_ble_eq_true rfl) (Nat.le_of_ble_eq_true rfl) rfl
      · skip
        have i_20 : w.toInt = 0 := by have zz := i_eq.mp c_20; exact zz
        refine lv_iconst (v := 4) hxR hbR dX0_ask_23 (by decide) ?_
        refine lv_goto (tgt := 29) hxR hbR dX0_ask_24 (by decide) ?_
        refine kSI (n := 3) (As := [.int v, .int 0, .int 4]) (rest := []) (fun w => w ++ (xW E ad iv ch rd tp rf hd (adn 10) tr gr dy im ++ (tW E adn ivn hrn csn Sn))) hxR hbR hmlR hts hown hK hA hl.1 (isCtx.suf _) hI (c0_isIn l E  v 0 4 ) (lw_S q393 q394 q81 q395) (by decide +kernel) rfl (Nat.le_of_ble_eq_true rfl) (Nat.le_of_ble_eq_true rfl) ⟨Nat.le_of_ble_eq_true rfl, Nat.le_of_ble_eq_true rfl⟩ (Nat.le_of_ble_eq_true rfl) dX0_ask_29 (fun r_29 u H locs hp hI hz => ?_)
        have hI : wI E AR sR H locs (xW E ad iv ch rd tp rf hd (adn 10) tr gr dy im ++ (tW E adn ivn hrn csn Sn)) := hI
        have hp : r_29 = b2i (decide (Int32.toInt 0 ≤ Int32.toInt v ∧ Int32.toInt v ≤ Int32.toInt 4)) := hp
        have hr_29 := hp
        rcases b2i_cases hr_29 with ⟨c_29, rfl⟩ | ⟨c_29, rfl⟩
        · skip
          have c_29 : Int32.toInt 0 ≤ Int32.toInt v ∧ Int32.toInt v ≤ Int32.toInt 4 := of_decide_eq_true c_29
          have c_29 : 0 ≤ v.toInt ∧ v.toInt ≤ 4 := by exact c_29
          refine lv_if_ne (tgt := 42) hxR hbR dX0_ask_32 (by decide) (fun _ => ?_) (fun c => absurd c (by decide))
          refine lv_iload_n hxR hbR dX0_ask_42 rfl (lv_at hl 1 rfl) ?_
          refine lv_if_ne (tgt := 56) hxR hbR dX0_ask_43 (by decide) (fun c_43 => ?_) (fun c_43 => ?_)
          · skip
            have i_43 : ¬ (w.toInt = 0) := by have zz := mt i_eq.mpr c_43; exact zz
            refine lv_aload_n hxR hbR dX0_ask_56 rfl (lv_at hl 0 rfl) ?_
            refine r_get hxR hbR hts hown hK hI okX0 (ci := 0) rfl 8 (he_l xW_o) 0 (by decide) q263 rfl (v := .ref (adn 10)) rfl dX0_ask_57 ?_
            refine r_get hxR hbR hts hown hK hI okX1 (ci := 1) rfl (14 + 0) (he_r (Nat.le_of_ble_eq_true rfl) (Nat.le_of_ble_eq_true rfl) tW_o) 5 (by decide) q151 rfl (v := .int (ivn 5)) (al rfl) dX0_ask_60 ?_
            refine lv_istore_n (lv' := [(3, .int (ivn 5)), (0, .ref (ad 11)), (1, .int w), (2, .int v)]) hxR hbR dX0_ask_63 rfl hl (by decide) rfl (fun ls hl => ?_)
            refine lv_aload_n hxR hbR dX0_ask_64 rfl (lv_at hl 1 rfl) ?_
            refine r_get hxR hbR hts hown hK hI okX0 (ci := 0) rfl 8 (he_l xW_o) 0 (by decide) q263 rfl (v := .ref (adn 10)) rfl dX0_ask_65 ?_
            refine lv_iload_n hxR hbR dX0_ask_68 rfl (lv_at hl 2 rfl) ?_
            refine lv_if_ne (tgt := 76) hxR hbR dX0_ask_69 (by decide) (fun c_69 => ?_) (fun c_69 => ?_)
            · skip
              have i_69 : ¬ (w.toInt = 0) := by have zz := mt i_eq.mpr c_69; exact zz
              refine lv_aload_n hxR hbR dX0_ask_76 rfl (lv_at hl 1 rfl) ?_
              refine r_get hxR hbR hts hown hK hI okX0 (ci := 0) rfl 8 (he_l xW_o) 0 (by decide) q263 rfl (v := .ref (adn 10)) rfl dX0_ask_77 ?_
              refine r_get hxR hbR hts hown hK hI okX1 (ci := 1) rfl (14 + 0) (he_r (Nat.le_of_ble_eq_true rfl) (Nat.le_of_ble_eq_true rfl) tW_o) 4 (by decide) q148 rfl (v := .int (ivn 4)) (al rfl) dX0_ask_80 ?_
              refine r_put (v := .int (ivn 4)) (ws1 := xW E ad iv ch rd tp rf hd (adn 10) tr gr dy im ++ (tW E adn (va_up ivn 4 (ivn 4)) hrn csn Sn)) hxR hbR hts hown hK hI okX1 (ci := 1) rfl (14 + 0) (he_r (Nat.le_of_ble_eq_true rfl) (Nat.le_of_ble_eq_true rfl) tW_o) 4 (by decide) q148 rfl rfl rfl rfl (Nat.le_of_ble_eq_true rfl) (hw_r (Nat.le_of_ble_eq_true rfl) (Nat.le_of_ble_eq_true rfl) tW_i4) dX0_ask_83 (fun H locs hI => ?_)
              refine lv_aload_n hxR hbR dX0_ask_86 rfl (lv_at hl 1 rfl) ?_
              refine r_get hxR hbR hts hown hK hI okX0 (ci := 0) rfl 8 (he_l xW_o) 0 (by decide) q263 rfl (v := .ref (adn 10)) rfl dX0_ask_87 ?_
              refine lv_iload_n hxR hbR dX0_ask_90 rfl (lv_at hl 2 rfl) ?_
              refine lv_iconst (v := 1) hxR hbR dX0_ask_91 (by decide) ?_
              refine lv_icmp_ne (tgt := 99) hxR hbR dX0_ask_92 (by decide) (fun c_92 => ?_) (fun c_92 => ?_)
              · skip
                have i_92 : ¬ (w.toInt = 1) := by have zz := mt i_eq.mpr c_92; exact zz
                refine lv_aload_n hxR hbR dX0_ask_99 rfl (lv_at hl 1 rfl) ?_
                refine r_get hxR hbR hts hown hK hI okX0 (ci := 0) rfl 8 (he_l xW_o) 0 (by decide) q263 rfl (v := .ref (adn 10)) rfl dX0_ask_100 ?_
                refine r_get hxR hbR hts hown hK hI okX1 (ci := 1) rfl (14 + 0) (he_r (Nat.le_of_ble_eq_true rfl) (Nat.le_of_ble_eq_true rfl) tW_o) 5 (by decide) q151 rfl (v := .int (ivn 5)) (al (up_n (by decide) rfl)) dX0_ask_103 ?_
                refine r_put (v := .int (ivn 5)) (ws1 := xW E ad iv ch rd tp rf hd (adn 10) tr gr dy im ++ (tW E adn (va_up (va_up ivn 4 (ivn 4)) 5 (ivn 5)) hrn csn Sn)) hxR hbR hts hown hK hI okX1 (ci := 1) rfl (14 + 0) (he_r (Nat.le_of_ble_eq_true rfl) (Nat.le_of_ble_eq_true rfl) tW_o) 5 (by decide) q151 rfl rfl rfl rfl (Nat.le_of_ble_eq_true rfl) (hw_r (Nat.le_of_ble_eq_true rfl) (Nat.le_of_ble_eq_true rfl) tW_i5) dX0_ask_106 (fun H locs hI => ?_)
                refine lv_iload_n hxR hbR dX0_ask_109 rfl (lv_at hl 0 rfl) ?_
                have hC : askC w v = 0 := by
                  clear hret hI
                  unfold askC
                  repeat' split
                  all_goals first | rfl | (exfalso; omega) | contradiction | (exfalso; simp_all; done) | simp_all
                have erf : bumpR rf (askC w v) = rf := by rw [hC]; exact bump_0 _
                have eivn4 : gd (askC w v) (if w = 0 then v else ivn 4) (ivn 4) = ivn 4 := by rw [hC]; first | rfl | (simp only [gd_0]; split <;> first | rfl | contradiction) | (exfalso; omega)
                have eivn5 : gd (askC w v) (if w = 0 then ivn 5 else v) (ivn 5) = ivn 5 := by rw [hC]; first | rfl | (simp only [gd_0]; split <;> first | rfl | contradiction) | (exfalso; omega)
                have hI := wI_w (ws' := xW E ad iv ch rd tp (bumpR rf (askC w v)) hd (adn 10) tr gr dy im ++ (tW E adn (va_up (va_up ivn 4 (gd (askC w v) (if w = 0 then v else ivn 4) (ivn 4))) 5 (gd (askC w v) (if w = 0 then ivn 5 else v) (ivn 5))) hrn csn Sn)) (by rw [erf, eivn4, eivn5]; try rfl) hI
                exact hret () (ivn 5) _ _ 0 0 _ _ dX0_ask_110 hI (by show (ivn 5) = gd (askC w v) (if w = 0 then ivn 4 else ivn 5) (askC w v); rw [hC]; first | rfl | (simp only [gd_0]; split <;> first | rfl | contradiction)) (Nat.le_of_ble_eq_true rfl) (Nat.le_of_ble_eq_true rfl) rfl
              · skip
                have i_92 : w.toInt = 1 := by have zz := i_eq.mp c_92; exact zz
                refine lv_iload_n hxR hbR dX0_ask_95 rfl (lv_at hl 3 rfl) ?_
                refine lv_goto (tgt := 106) hxR hbR dX0_ask_96 (by decide) ?_
                refine r_put (v := .int v) (ws1 := xW E ad iv ch rd tp rf hd (adn 10) tr gr dy im ++ (tW E adn (va_up (va_up ivn 4 (ivn 4)) 5 v) hrn csn Sn)) hxR hbR hts hown hK hI okX1 (ci := 1) rfl (14 + 0) (he_r (Nat.le_of_ble_eq_true rfl) (Nat.le_of_ble_eq_true rfl) tW_o) 5 (by decide) q151 rfl rfl rfl rfl (Nat.le_of_ble_eq_true rfl) (hw_r (Nat.le_of_ble_eq_true rfl) (Nat.le_of_ble_eq_true rfl) tW_i5) dX0_ask_106 (fun H locs hI => ?_)
                refine lv_iload_n hxR hbR dX0_ask_109 rfl (lv_at hl 0 rfl) ?_
                have hC : askC w v = 0 := by
                  clear hret hI
                  unfold askC
                  repeat' split
                  all_goals first | rfl | (exfalso; omega) | contradiction | (exfalso; simp_all; done) | simp_all
                have erf : bumpR rf (askC w v) = rf := by rw [hC]; exact bump_0 _
                have eivn4 : gd (askC w v) (if w = 0 then v else ivn 4) (ivn 4) = ivn 4 := by rw [hC]; first | rfl | (simp only [gd_0]; split <;> first | rfl | contradiction) | (exfalso; omega)
                have eivn5 : gd (askC w v) (if w = 0 then ivn 5 else v) (ivn 5) = v := by rw [hC]; first | rfl | (simp only [gd_0]; split <;> first | rfl | contradiction) | (exfalso; omega)
                have hI := wI_w (ws' := xW E ad iv ch rd tp (bumpR rf (askC w v)) hd (adn 10) tr gr dy im ++ (tW E adn (va_up (va_up ivn 4 (gd (askC w v) (if w = 0 then v else ivn 4) (ivn 4))) 5 (gd (askC w v) (if w = 0 then ivn 5 else v) (ivn 5))) hrn csn Sn)) (by rw [erf, eivn4, eivn5]; try rfl) hI
                exact hret () (ivn 5) _ _ 0 0 _ _ dX0_ask_110 hI (by show (ivn 5) = gd (askC w v) (if w = 0 then ivn 4 else ivn 5) (askC w v); rw [hC]; first | rfl | (simp only [gd_0]; split <;> first | rfl | contradiction)) (Nat.le_of_ble_eq_true rfl) (Nat.le_of_ble_eq_true rfl) rfl
            · skip
              have i_69 : w.toInt = 0 := by have zz := i_eq.mp c_69; exact zz
              refine lv_iload_n hxR hbR dX0_ask_72 rfl (lv_at hl 3 rfl) ?_
              refine lv_goto (tgt := 83) hxR hbR dX0_ask_73 (by decide) ?_
              refine r_put (v := .int v) (ws1 := xW E ad iv ch rd tp rf hd (adn 10) tr gr dy im ++ (tW E adn (va_up ivn 4 v) hrn csn Sn)) hxR hbR hts hown hK hI okX1 (ci := 1) rfl (14 + 0) (he_r (Nat.le_of_ble_eq_true rfl) (Nat.le_of_ble_eq_true rfl) tW_o) 4 (by decide) q148 rfl rfl rfl rfl (Nat.le_of_ble_eq_true rfl) (hw_r (Nat.le_of_ble_eq_true rfl) (Nat.le_of_ble_eq_true rfl) tW_i4) dX0_ask_83 (fun H locs hI => ?_)
              refine lv_aload_n hxR hbR dX0_ask_86 rfl (lv_at hl 1 rfl) ?_
              refine r_get hxR hbR hts hown hK hI okX0 (ci := 0) rfl 8 (he_l xW_o) 0 (by decide) q263 rfl (v := .ref (adn 10)) rfl dX0_ask_87 ?_
              refine lv_iload_n hxR hbR dX0_ask_90 rfl (lv_at hl 2 rfl) ?_
              refine lv_iconst (v := 1) hxR hbR dX0_ask_91 (by decide) ?_
              refine lv_icmp_ne (tgt := 99) hxR hbR dX0_ask_92 (by decide) (fun c_92 => ?_) (fun c_92 => ?_)
              · skip
                have i_92 : ¬ (w.toInt = 1) := by have zz := mt i_eq.mpr c_92; exact zz
                refine lv_aload_n hxR hbR dX0_ask_99 rfl (lv_at hl 1 rfl) ?_
                refine r_get hxR hbR hts hown hK hI okX0 (ci := 0) rfl 8 (he_l xW_o) 0 (by decide) q263 rfl (v := .ref (adn 10)) rfl dX0_ask_100 ?_
                refine r_get hxR hbR hts hown hK hI okX1 (ci := 1) rfl (14 + 0) (he_r (Nat.le_of_ble_eq_true rfl) (Nat.le_of_ble_eq_true rfl) tW_o) 5 (by decide) q151 rfl (v := .int (ivn 5)) (al (up_n (by decide) rfl)) dX0_ask_103 ?_
                refine r_put (v := .int (ivn 5)) (ws1 := xW E ad iv ch rd tp rf hd (adn 10) tr gr dy im ++ (tW E adn (va_up (va_up ivn 4 v) 5 (ivn 5)) hrn csn Sn)) hxR hbR hts hown hK hI okX1 (ci := 1) rfl (14 + 0) (he_r (Nat.le_of_ble_eq_true rfl) (Nat.le_of_ble_eq_true rfl) tW_o) 5 (by decide) q151 rfl rfl rfl rfl (Nat.le_of_ble_eq_true rfl) (hw_r (Nat.le_of_ble_eq_true rfl) (Nat.le_of_ble_eq_true rfl) tW_i5) dX0_ask_106 (fun H locs hI => ?_)
                refine lv_iload_n hxR hbR dX0_ask_109 rfl (lv_at hl 0 rfl) ?_
                have hC : askC w v = 0 := by
                  clear hret hI
                  unfold askC
                  repeat' split
                  all_goals first | rfl | (exfalso; omega) | contradiction | (exfalso; simp_all; done) | simp_all
                have erf : bumpR rf (askC w v) = rf := by rw [hC]; exact bump_0 _
                have eivn4 : gd (askC w v) (if w = 0 then v else ivn 4) (ivn 4) = v := by rw [hC]; first | rfl | (simp only [gd_0]; split <;> first | rfl | contradiction) | (exfalso; omega)
                have eivn5 : gd (askC w v) (if w = 0 then ivn 5 else v) (ivn 5) = ivn 5 := by rw [hC]; first | rfl | (simp only [gd_0]; split <;> first | rfl | contradiction) | (exfalso; omega)
                have hI := wI_w (ws' := xW E ad iv ch rd tp (bumpR rf (askC w v)) hd (adn 10) tr gr dy im ++ (tW E adn (va_up (va_up ivn 4 (gd (askC w v) (if w = 0 then v else ivn 4) (ivn 4))) 5 (gd (askC w v) (if w = 0 then ivn 5 else v) (ivn 5))) hrn csn Sn)) (by rw [erf, eivn4, eivn5]; try rfl) hI
                exact hret () (ivn 5) _ _ 0 0 _ _ dX0_ask_110 hI (by show (ivn 5) = gd (askC w v) (if w = 0 then ivn 4 else ivn 5) (askC w v); rw [hC]; first | rfl | (simp only [gd_0]; split <;> first | rfl | contradiction)) (Nat.le_of_ble_eq_true rfl) (Nat.le_of_ble_eq_true rfl) rfl
              · skip
                have i_92 : w.toInt = 1 := by have zz := i_eq.mp c_92; exact zz
                refine lv_iload_n hxR hbR dX0_ask_95 rfl (lv_at hl 3 rfl) ?_
                refine lv_goto (tgt := 106) hxR hbR dX0_ask_96 (by decide) ?_
                refine r_put (v := .int v) (ws1 := xW E ad iv ch rd tp rf hd (adn 10) tr gr dy im ++ (tW E adn (va_up (va_up ivn 4 v) 5 v) hrn csn Sn)) hxR hbR hts hown hK hI okX1 (ci := 1) rfl (14 + 0) (he_r (Nat.le_of_ble_eq_true rfl) (Nat.le_of_ble_eq_true rfl) tW_o) 5 (by decide) q151 rfl rfl rfl rfl (Nat.le_of_ble_eq_true rfl) (hw_r (Nat.le_of_ble_eq_true rfl) (Nat.le_of_ble_eq_true rfl) tW_i5) dX0_ask_106 (fun H locs hI => ?_)
                refine lv_iload_n hxR hbR dX0_ask_109 rfl (lv_at hl 0 rfl) ?_
                have hC : askC w v = 0 := by
                  clear hret hI
                  unfold askC
                  repeat' split
                  all_goals first | rfl | (exfalso; omega) | contradiction | (exfalso; simp_all; done) | simp_all
                have erf : bumpR rf (askC w v) = rf := by rw [hC]; exact bump_0 _
                have eivn4 : gd (askC w v) (if w = 0 then v else ivn 4) (ivn 4) = v := by rw [hC]; first | rfl | (simp only [gd_0]; split <;> first | rfl | contradiction) | (exfalso; omega)
                have eivn5 : gd (askC w v) (if w = 0 then ivn 5 else v) (ivn 5) = v := by rw [hC]; first | rfl | (simp only [gd_0]; split <;> first | rfl | contradiction) | (exfalso; omega)
                have hI := wI_w (ws' := xW E ad iv ch rd tp (bumpR rf (askC w v)) hd (adn 10) tr gr dy im ++ (tW E adn (va_up (va_up ivn 4 (gd (askC w v) (if w = 0 then v else ivn 4) (ivn 4))) 5 (gd (askC w v) (if w = 0 then ivn 5 else v) (ivn 5))) hrn csn Sn)) (by rw [erf, eivn4, eivn5]; try rfl) hI
                exact hret () (ivn 5) _ _ 0 0 _ _ dX0_ask_110 hI (by show (ivn 5) = gd (askC w v) (if w = 0 then ivn 4 else ivn 5) (askC w v); rw [hC]; first | rfl | (simp only [gd_0]; split <;> first | rfl | contradiction)) (Nat.le_of_ble_eq_true rfl) (Nat.le_of_ble_eq_true rfl) rfl
          · skip
            have i_43 : w.toInt = 0 := by have zz := i_eq.mp c_43; exact zz
            refine lv_aload_n hxR hbR dX0_ask_46 rfl (lv_at hl 0 rfl) ?_
            refine r_get hxR hbR hts hown hK hI okX0 (ci := 0) rfl 8 (he_l xW_o) 0 (by decide) q263 rfl (v := .ref (adn 10)) rfl dX0_ask_47 ?_
            refine r_get hxR hbR hts hown hK hI okX1 (ci := 1) rfl (14 + 0) (he_r (Nat.le_of_ble_eq_true rfl) (Nat.le_of_ble_eq_true rfl) tW_o) 4 (by decide) q148 rfl (v := .int (ivn 4)) (al rfl) dX0_ask_50 ?_
            refine lv_goto (tgt := 63) hxR hbR dX0_ask_53 (by decide) ?_
            refine lv_istore_n (lv' := [(3, .int (ivn 4)), (0, .ref (ad 11)), (1, .int w), (2, .int v)]) hxR hbR dX0_ask_63 rfl hl (by decide) rfl (fun ls hl => ?_)
            refine lv_aload_n hxR hbR dX0_ask_64 rfl (lv_at hl 1 rfl) ?_
            refine r_get hxR hbR hts hown hK hI okX0 (ci := 0) rfl 8 (he_l xW_o) 0 (by decide) q263 rfl (v := .ref (adn 10)) rfl dX0_ask_65 ?_
            refine lv_iload_n hxR hbR dX0_ask_68 rfl (lv_at hl 2 rfl) ?_
            refine lv_if_ne (tgt := 76) hxR hbR dX0_ask_69 (by decide) (fun c_69 => ?_) (fun c_69 => ?_)
            · skip
              have i_69 : ¬ (w.toInt = 0) := by have zz := mt i_eq.mpr c_69; exact zz
              refine lv_aload_n hxR hbR dX0_ask_76 rfl (lv_at hl 1 rfl) ?_
              refine r_get hxR hbR hts hown hK hI okX0 (ci := 0) rfl 8 (he_l xW_o) 0 (by decide) q263 rfl (v := .ref (adn 10)) rfl dX0_ask_77 ?_
              refine r_get hxR hbR hts hown hK hI okX1 (ci := 1) rfl (14 + 0) (he_r (Nat.le_of_ble_eq_true rfl) (Nat.le_of_ble_eq_true rfl) tW_o) 4 (by decide) q148 rfl (v := .int (ivn 4)) (al rfl) dX0_ask_80 ?_
              refine r_put (v := .int (ivn 4)) (ws1 := xW E ad iv ch rd tp rf hd (adn 10) tr gr dy im ++ (tW E adn (va_up ivn 4 (ivn 4)) hrn csn Sn)) hxR hbR hts hown hK hI okX1 (ci := 1) rfl (14 + 0) (he_r (Nat.le_of_ble_eq_true rfl) (Nat.le_of_ble_eq_true rfl) tW_o) 4 (by decide) q148 rfl rfl rfl rfl (Nat.le_of_ble_eq_true rfl) (hw_r (Nat.le_of_ble_eq_true rfl) (Nat.le_of_ble_eq_true rfl) tW_i4) dX0_ask_83 (fun H locs hI => ?_)
              refine lv_aload_n hxR hbR dX0_ask_86 rfl (lv_at hl 1 rfl) ?_
              refine r_get hxR hbR hts hown hK hI okX0 (ci := 0) rfl 8 (he_l xW_o) 0 (by decide) q263 rfl (v := .ref (adn 10)) rfl dX0_ask_87 ?_
              refine lv_iload_n hxR hbR dX0_ask_90 rfl (lv_at hl 2 rfl) ?_
              refine lv_iconst (v := 1) hxR hbR dX0_ask_91 (by decide) ?_
              refine lv_icmp_ne (tgt := 99) hxR hbR dX0_ask_92 (by decide) (fun c_92 => ?_) (fun c_92 => ?_)
              · skip
                have i_92 : ¬ (w.toInt = 1) := by have zz := mt i_eq.mpr c_92; exact zz
                refine lv_aload_n hxR hbR dX0_ask_99 rfl (lv_at hl 1 rfl) ?_
                refine r_get hxR hbR hts hown hK hI okX0 (ci := 0) rfl 8 (he_l xW_o) 0 (by decide) q263 rfl (v := .ref (adn 10)) rfl dX0_ask_100 ?_
                refine r_get hxR hbR hts hown hK hI okX1 (ci := 1) rfl (14 + 0) (he_r (Nat.le_of_ble_eq_true rfl) (Nat.le_of_ble_eq_true rfl) tW_o) 5 (by decide) q151 rfl (v := .int (ivn 5)) (al (up_n (by decide) rfl)) dX0_ask_103 ?_
                refine r_put (v := .int (ivn 5)) (ws1 := xW E ad iv ch rd tp rf hd (adn 10) tr gr dy im ++ (tW E adn (va_up (va_up ivn 4 (ivn 4)) 5 (ivn 5)) hrn csn Sn)) hxR hbR hts hown hK hI okX1 (ci := 1) rfl (14 + 0) (he_r (Nat.le_of_ble_eq_true rfl) (Nat.le_of_ble_eq_true rfl) tW_o) 5 (by decide) q151 rfl rfl rfl rfl (Nat.le_of_ble_eq_true rfl) (hw_r (Nat.le_of_ble_eq_true rfl) (Nat.le_of_ble_eq_true rfl) tW_i5) dX0_ask_106 (fun H locs hI => ?_)
                refine lv_iload_n hxR hbR dX0_ask_109 rfl (lv_at hl 0 rfl) ?_
                have hC : askC w v = 0 := by
                  clear hret hI
                  unfold askC
                  repeat' split
                  all_goals first | rfl | (exfalso; omega) | contradiction | (exfalso; simp_all; done) | simp_all
                have erf : bumpR rf (askC w v) = rf := by rw [hC]; exact bump_0 _
                have eivn4 : gd (askC w v) (if w = 0 then v else ivn 4) (ivn 4) = ivn 4 := by rw [hC]; first | rfl | (simp only [gd_0]; split <;> first | rfl | contradiction) | (exfalso; omega)
                have eivn5 : gd (askC w v) (if w = 0 then ivn 5 else v) (ivn 5) = ivn 5 := by rw [hC]; first | rfl | (simp only [gd_0]; split <;> first | rfl | contradiction) | (exfalso; omega)
                have hI := wI_w (ws' := xW E ad iv ch rd tp (bumpR rf (askC w v)) hd (adn 10) tr gr dy im ++ (tW E adn (va_up (va_up ivn 4 (gd (askC w v) (if w = 0 then v else ivn 4) (ivn 4))) 5 (gd (askC w v) (if w = 0 then ivn 5 else v) (ivn 5))) hrn csn Sn)) (by rw [erf, eivn4, eivn5]; try rfl) hI
                exact hret () (ivn 4) _ _ 0 0 _ _ dX0_ask_110 hI (by show (ivn 4) = gd (askC w v) (if w = 0 then ivn 4 else ivn 5) (askC w v); rw [hC]; first | rfl | (simp only [gd_0]; split <;> first | rfl | contradiction)) (Nat.le_of_ble_eq_true rfl) (Nat.le_of_ble_eq_true rfl) rfl
              · skip
                have i_92 : w.toInt = 1 := by have zz := i_eq.mp c_92; exact zz
                refine lv_iload_n hxR hbR dX0_ask_95 rfl (lv_at hl 3 rfl) ?_
                refine lv_goto (tgt := 106) hxR hbR dX0_ask_96 (by decide) ?_
                refine r_put (v := .int v) (ws1 := xW E ad iv ch rd tp rf hd (adn 10) tr gr dy im ++ (tW E adn (va_up (va_up ivn 4 (ivn 4)) 5 v) hrn csn Sn)) hxR hbR hts hown hK hI okX1 (ci := 1) rfl (14 + 0) (he_r (Nat.le_of_ble_eq_true rfl) (Nat.le_of_ble_eq_true rfl) tW_o) 5 (by decide) q151 rfl rfl rfl rfl (Nat.le_of_ble_eq_true rfl) (hw_r (Nat.le_of_ble_eq_true rfl) (Nat.le_of_ble_eq_true rfl) tW_i5) dX0_ask_106 (fun H locs hI => ?_)
                refine lv_iload_n hxR hbR dX0_ask_109 rfl (lv_at hl 0 rfl) ?_
                have hC : askC w v = 0 := by
                  clear hret hI
                  unfold askC
                  repeat' split
                  all_goals first | rfl | (exfalso; omega) | contradiction | (exfalso; simp_all; done) | simp_all
                have erf : bumpR rf (askC w v) = rf := by rw [hC]; exact bump_0 _
                have eivn4 : gd (askC w v) (if w = 0 then v else ivn 4) (ivn 4) = ivn 4 := by rw [hC]; first | rfl | (simp only [gd_0]; split <;> first | rfl | contradiction) | (exfalso; omega)
                have eivn5 : gd (askC w v) (if w = 0 then ivn 5 else v) (ivn 5) = v := by rw [hC]; first | rfl | (simp only [gd_0]; split <;> first | rfl | contradiction) | (exfalso; omega)
                have hI := wI_w (ws' := xW E ad iv ch rd tp (bumpR rf (askC w v)) hd (adn 10) tr gr dy im ++ (tW E adn (va_up (va_up ivn 4 (gd (askC w v) (if w = 0 then v else ivn 4) (ivn 4))) 5 (gd (askC w v) (if w = 0 then ivn 5 else v) (ivn 5))) hrn csn Sn)) (by rw [erf, eivn4, eivn5]; try rfl) hI
                exact hret () (ivn 4) _ _ 0 0 _ _ dX0_ask_110 hI (by show (ivn 4) = gd (askC w v) (if w = 0 then ivn 4 else ivn 5) (askC w v); rw [hC]; first | rfl | (simp only [gd_0]; split <;> first | rfl | contradiction)) (Nat.le_of_ble_eq_true rfl) (Nat.le_of_ble_eq_true rfl) rfl
            · skip
              have i_69 : w.toInt = 0 := by have zz := i_eq.mp c_69; exact zz
              refine lv_iload_n hxR hbR dX0_ask_72 rfl (lv_at hl 3 rfl) ?_
              refine lv_goto (tgt := 83) hxR hbR dX0_ask_73 (by decide) ?_
              refine r_put (v := .int v) (ws1 := xW E ad iv ch rd tp rf hd (adn 10) tr gr dy im ++ (tW E adn (va_up ivn 4 v) hrn csn Sn)) hxR hbR hts hown hK hI okX1 (ci := 1) rfl (14 + 0) (he_r (Nat.le_of_ble_eq_true rfl) (Nat.le_of_ble_eq_true rfl) tW_o) 4 (by decide) q148 rfl rfl rfl rfl (Nat.le_of_ble_eq_true rfl) (hw_r (Nat.le_of_ble_eq_true rfl) (Nat.le_of_ble_eq_true rfl) tW_i4) dX0_ask_83 (fun H locs hI => ?_)
              refine lv_aload_n hxR hbR dX0_ask_86 rfl (lv_at hl 1 rfl) ?_
              refine r_get hxR hbR hts hown hK hI okX0 (ci := 0) rfl 8 (he_l xW_o) 0 (by decide) q263 rfl (v := .ref (adn 10)) rfl dX0_ask_87 ?_
              refine lv_iload_n hxR hbR dX0_ask_90 rfl (lv_at hl 2 rfl) ?_
              refine lv_iconst (v := 1) hxR hbR dX0_ask_91 (by decide) ?_
              refine lv_icmp_ne (tgt := 99) hxR hbR dX0_ask_92 (by decide) (fun c_92 => ?_) (fun c_92 => ?_)
              · skip
                have i_92 : ¬ (w.toInt = 1) := by have zz := mt i_eq.mpr c_92; exact zz
                refine lv_aload_n hxR hbR dX0_ask_99 rfl (lv_at hl 1 rfl) ?_
                refine r_get hxR hbR hts hown hK hI okX0 (ci := 0) rfl 8 (he_l xW_o) 0 (by decide) q263 rfl (v := .ref (adn 10)) rfl dX0_ask_100 ?_
                refine r_get hxR hbR hts hown hK hI okX1 (ci := 1) rfl (14 + 0) (he_r (Nat.le_of_ble_eq_true rfl) (Nat.le_of_ble_eq_true rfl) tW_o) 5 (by decide) q151 rfl (v := .int (ivn 5)) (al (up_n (by decide) rfl)) dX0_ask_103 ?_
                refine r_put (v := .int (ivn 5)) (ws1 := xW E ad iv ch rd tp rf hd (adn 10) tr gr dy im ++ (tW E adn (va_up (va_up ivn 4 v) 5 (ivn 5)) hrn csn Sn)) hxR hbR hts hown hK hI okX1 (ci := 1) rfl (14 + 0) (he_r (Nat.le_of_ble_eq_true rfl) (Nat.le_of_ble_eq_true rfl) tW_o) 5 (by decide) q151 rfl rfl rfl rfl (Nat.le_of_ble_eq_true rfl) (hw_r (Nat.le_of_ble_eq_true rfl) (Nat.le_of_ble_eq_true rfl) tW_i5) dX0_ask_106 (fun H locs hI => ?_)
                refine lv_iload_n hxR hbR dX0_ask_109 rfl (lv_at hl 0 rfl) ?_
                have hC : askC w v = 0 := by
                  clear hret hI
                  unfold askC
                  repeat' split
                  all_goals first | rfl | (exfalso; omega) | contradiction | (exfalso; simp_all; done) | simp_all
                have erf : bumpR rf (askC w v) = rf := by rw [hC]; exact bump_0 _
                have eivn4 : gd (askC w v) (if w = 0 then v else ivn 4) (ivn 4) = v := by rw [hC]; first | rfl | (simp only [gd_0]; split <;> first | rfl | contradiction) | (exfalso; omega)
                have eivn5 : gd (askC w v) (if w = 0 then ivn 5 else v) (ivn 5) = ivn 5 := by rw [hC]; first | rfl | (simp only [gd_0]; split <;> first | rfl | contradiction) | (exfalso; omega)
                have hI := wI_w (ws' := xW E ad iv ch rd tp (bumpR rf (askC w v)) hd (adn 10) tr gr dy im ++ (tW E adn (va_up (va_up ivn 4 (gd (askC w v) (if w = 0 then v else ivn 4) (ivn 4))) 5 (gd (askC w v) (if w = 0 then ivn 5 else v) (ivn 5))) hrn csn Sn)) (by rw [erf, eivn4, eivn5]; try rfl) hI
                exact hret () (ivn 4) _ _ 0 0 _ _ dX0_ask_110 hI (by show (ivn 4) = gd (askC w v) (if w = 0 then ivn 4 else ivn 5) (askC w v); rw [hC]; first | rfl | (simp only [gd_0]; split <;> first | rfl | contradiction)) (Nat.le_of_ble_eq_true rfl) (Nat.le_of_ble_eq_true rfl) rfl
              · skip
                have i_92 : w.toInt = 1 := by have zz := i_eq.mp c_92; exact zz
                refine lv_iload_n hxR hbR dX0_ask_95 rfl (lv_at hl 3 rfl) ?_
                refine lv_goto (tgt := 106) hxR hbR dX0_ask_96 (by decide) ?_
                refine r_put (v := .int v) (ws1 := xW E ad iv ch rd tp rf hd (adn 10) tr gr dy im ++ (tW E adn (va_up (va_up ivn 4 v) 5 v) hrn csn Sn)) hxR hbR hts hown hK hI okX1 (ci := 1) rfl (14 + 0) (he_r (Nat.le_of_ble_eq_true rfl) (Nat.le_of_ble_eq_true rfl) tW_o) 5 (by decide) q151 rfl rfl rfl rfl (Nat.le_of_ble_eq_true rfl) (hw_r (Nat.le_of_ble_eq_true rfl) (Nat.le_of_ble_eq_true rfl) tW_i5) dX0_ask_106 (fun H locs hI => ?_)
                refine lv_iload_n hxR hbR dX0_ask_109 rfl (lv_at hl 0 rfl) ?_
                have hC : askC w v = 0 := by
                  clear hret hI
                  unfold askC
                  repeat' split
                  all_goals first | rfl | (exfalso; omega) | contradiction | (exfalso; simp_all; done) | simp_all
                have erf : bumpR rf (askC w v) = rf := by rw [hC]; exact bump_0 _
                have eivn4 : gd (askC w v) (if w = 0 then v else ivn 4) (ivn 4) = v := by rw [hC]; first | rfl | (simp only [gd_0]; split <;> first | rfl | contradiction) | (exfalso; omega)
                have eivn5 : gd (askC w v) (if w = 0 then ivn 5 else v) (ivn 5) = v := by rw [hC]; first | rfl | (simp only [gd_0]; split <;> first | rfl | contradiction) | (exfalso; omega)
                have hI := wI_w (ws' := xW E ad iv ch rd tp (bumpR rf (askC w v)) hd (adn 10) tr gr dy im ++ (tW E adn (va_up (va_up ivn 4 (gd (askC w v) (if w = 0 then v else ivn 4) (ivn 4))) 5 (gd (askC w v) (if w = 0 then ivn 5 else v) (ivn 5))) hrn csn Sn)) (by rw [erf, eivn4, eivn5]; try rfl) hI
                exact hret () (ivn 4) _ _ 0 0 _ _ dX0_ask_110 hI (by show (ivn 4) = gd (askC w v) (if w = 0 then ivn 4 else ivn 5) (askC w v); rw [hC]; first | rfl | (simp only [gd_0]; split <;> first | rfl | contradiction)) (Nat.le_of_ble_eq_true rfl) (Nat.le_of_ble_eq_true rfl) rfl
        · skip
          have c_29 : ¬ (Int32.toInt 0 ≤ Int32.toInt v ∧ Int32.toInt v ≤ Int32.toInt 4) := of_decide_eq_false c_29
          have c_29 : ¬ (0 ≤ v.toInt ∧ v.toInt ≤ 4) := by exact c_29
          refine lv_if_ne (tgt := 42) hxR hbR dX0_ask_32 (by decide) (fun c => absurd c (by decide)) (fun _ => ?_)
          refine lv_aload_n hxR hbR dX0_ask_35 rfl (lv_at hl 0 rfl) ?_
          refine lv_bipush (v := (-2)) hxR hbR dX0_ask_36 (by decide) ?_
          refine kVI (n := 1) (As := [.int (-2)]) (rest := []) (fun w => w ++ (tW E adn ivn hrn csn Sn)) hxR hbR hmlR hts hown hK hA hl.1 (isCtx.suf _) hI (c0_no l E ad iv ch rd tp rf hd (adn 10) tr gr dy im (-2) 2 (by decide) (by decide)) (lw_V q396 q398 qs2 q81 q399) ⟨rfl, by decide +kernel⟩ 8 0 rfl rfl xW_o rfl (Nat.le_of_ble_eq_true rfl) (Nat.le_of_ble_eq_true rfl) ⟨Nat.le_of_ble_eq_true rfl, Nat.le_of_ble_eq_true rfl⟩ (Nat.le_of_ble_eq_true rfl) dX0_ask_38 (fun r_38 u H locs hp hI hz => ?_)
          have hI : wI E AR sR H locs (xW E ad iv ch rd tp (va_up rf 2 (rf 2 + 1)) hd (adn 10) tr gr dy im ++ (tW E adn ivn hrn csn Sn)) := hI
          have hp : r_38 = (-2) := hp
          have hr_38 := hp
          subst hr_38
          have hC : askC w v = (-2) := by
            clear hret hI
            unfold askC
            repeat' split
            all_goals first | rfl | (exfalso; omega) | contradiction | (exfalso; simp_all; done) | simp_all
          have erf : bumpR rf (askC w v) = va_up rf 2 (rf 2 + 1) := by rw [hC]; exact bump_2 _
          have eivn4 : gd (askC w v) (if w = 0 then v else ivn 4) (ivn 4) = ivn 4 := by rw [hC]; first | rfl | (simp only [gd_0]; split <;> first | rfl | contradiction) | (exfalso; omega)
          have eivn5 : gd (askC w v) (if w = 0 then ivn 5 else v) (ivn 5) = ivn 5 := by rw [hC]; first | rfl | (simp only [gd_0]; split <;> first | rfl | contradiction) | (exfalso; omega)
          have hI := wI_w (ws' := xW E ad iv ch rd tp (bumpR rf (askC w v)) hd (adn 10) tr gr dy im ++ (tW E adn (va_up (va_up ivn 4 (gd (askC w v) (if w = 0 then v else ivn 4) (ivn 4))) 5 (gd (askC w v) (if w = 0 then ivn 5 else v) (ivn 5))) hrn csn Sn)) (by rw [erf, eivn4, eivn5, va_up_id (f := ivn) (k := 4) (v := ivn 4) rfl, va_up_id (f := ivn) (k := 5) (v := ivn 5) rfl]; try rfl) hI
          exact hret () (-2) _ _ 0 0 _ _ dX0_ask_41 hI (by show (-2) = gd (askC w v) (if w = 0 then ivn 4 else ivn 5) (askC w v); rw [hC]; first | rfl | (simp only [gd_0]; split <;> first | rfl | contradiction)) (Nat.le_of_ble_eq_true rfl) (Nat.le_of_ble_eq_true rfl) rfl
    · skip
      have i_11 : w.toInt = 0 := by have zz := i_eq.mp c_11; exact zz
      refine lv_iconst (v := 2) hxR hbR dX0_ask_14 (by decide) ?_
      refine lv_goto (tgt := 19) hxR hbR dX0_ask_15 (by decide) ?_
      refine lv_iload_n hxR hbR dX0_ask_19 rfl (lv_at hl 1 rfl) ?_
      refine lv_if_ne (tgt := 27) hxR hbR dX0_ask_20 (by decide) (fun c_20 => ?_) (fun c_20 => ?_)
      · skip
        have i_20 : ¬ (w.toInt = 0) := by have zz := mt i_eq.mpr c_20; exact zz
        refine lv_bipush (v := 99) hxR hbR dX0_ask_27 (by decide) ?_
        refine kSI (n := 3) (As := [.int v, .int 2, .int 99]) (rest := []) (fun w => w ++ (xW E ad iv ch rd tp rf hd (adn 10) tr gr dy im ++ (tW E adn ivn hrn csn Sn))) hxR hbR hmlR hts hown hK hA hl.1 (isCtx.suf _) hI (c0_isIn l E  v 2 99 ) (lw_S q393 q394 q81 q395) (by decide +kernel) rfl (Nat.le_of_ble_eq_true rfl) (Nat.le_of_ble_eq_true rfl) ⟨Nat.le_of_ble_eq_true rfl, Nat.le_of_ble_eq_true rfl⟩ (Nat.le_of_ble_eq_true rfl) dX0_ask_29 (fun r_29 u H locs hp hI hz => ?_)
        have hI : wI E AR sR H locs (xW E ad iv ch rd tp rf hd (adn 10) tr gr dy im ++ (tW E adn ivn hrn csn Sn)) := hI
        have hp : r_29 = b2i (decide (Int32.toInt 2 ≤ Int32.toInt v ∧ Int32.toInt v ≤ Int32.toInt 99)) := hp
        have hr_29 := hp
        rcases b2i_cases hr_29 with ⟨c_29, rfl⟩ | ⟨c_29, rfl⟩
        · skip
          have c_29 : Int32.toInt 2 ≤ Int32.toInt v ∧ Int32.toInt v ≤ Int32.toInt 99 := of_decide_eq_true c_29
          have c_29 : 2 ≤ v.toInt ∧ v.toInt ≤ 99 := by exact c_29
          refine lv_if_ne (tgt := 42) hxR hbR dX0_ask_32 (by decide) (fun _ => ?_) (fun c => absurd c (by decide))
          refine lv_iload_n hxR hbR dX0_ask_42 rfl (lv_at hl 1 rfl) ?_
          refine lv_if_ne (tgt := 56) hxR hbR dX0_ask_43 (by decide) (fun c_43 => ?_) (fun c_43 => ?_)
          · skip
            have i_43 : ¬ (w.toInt = 0) := by have zz := mt i_eq.mpr c_43; exact zz
            refine lv_aload_n hxR hbR dX0_ask_56 rfl (lv_at hl 0 rfl) ?_
            refine r_get hxR hbR hts hown hK hI okX0 (ci := 0) rfl 8 (he_l xW_o) 0 (by decide) q263 rfl (v := .ref (adn 10)) rfl dX0_ask_57 ?_
            refine r_get hxR hbR hts hown hK hI okX1 (ci := 1) rfl (14 + 0) (he_r (Nat.le_of_ble_eq_true rfl) (Nat.le_of_ble_eq_true rfl) tW_o) 5 (by decide) q151 rfl (v := .int (ivn 5)) (al rfl) dX0_ask_60 ?_
            refine lv_istore_n (lv' := [(3, .int (ivn 5)), (0, .ref (ad 11)), (1, .int w), (2, .int v)]) hxR hbR dX0_ask_63 rfl hl (by decide) rfl (fun ls hl => ?_)
            refine lv_aload_n hxR hbR dX0_ask_64 rfl (lv_at hl 1 rfl) ?_
            refine r_get hxR hbR hts hown hK hI okX0 (ci := 0) rfl 8 (he_l xW_o) 0 (by decide) q263 rfl (v := .ref (adn 10)) rfl dX0_ask_65 ?_
            refine lv_iload_n hxR hbR dX0_ask_68 rfl (lv_at hl 2 rfl) ?_
            refine lv_if_ne (tgt := 76) hxR hbR dX0_ask_69 (by decide) (fun c_69 => ?_) (fun c_69 => ?_)
            · skip
              have i_69 : ¬ (w.toInt = 0) := by have zz := mt i_eq.mpr c_69; exact zz
              refine lv_aload_n hxR hbR dX0_ask_76 rfl (lv_at hl 1 rfl) ?_
              refine r_get hxR hbR hts hown hK hI okX0 (ci := 0) rfl 8 (he_l xW_o) 0 (by decide) q263 rfl (v := .ref (adn 10)) rfl dX0_ask_77 ?_
              refine r_get hxR hbR hts hown hK hI okX1 (ci := 1) rfl (14 + 0) (he_r (Nat.le_of_ble_eq_true rfl) (Nat.le_of_ble_eq_true rfl) tW_o) 4 (by decide) q148 rfl (v := .int (ivn 4)) (al rfl) dX0_ask_80 ?_
              refine r_put (v := .int (ivn 4)) (ws1 := xW E ad iv ch rd tp rf hd (adn 10) tr gr dy im ++ (tW E adn (va_up ivn 4 (ivn 4)) hrn csn Sn)) hxR hbR hts hown hK hI okX1 (ci := 1) rfl (14 + 0) (he_r (Nat.le_of_ble_eq_true rfl) (Nat.le_of_ble_eq_true rfl) tW_o) 4 (by decide) q148 rfl rfl rfl rfl (Nat.le_of_ble_eq_true rfl) (hw_r (Nat.le_of_ble_eq_true rfl) (Nat.le_of_ble_eq_true rfl) tW_i4) dX0_ask_83 (fun H locs hI => ?_)
              refine lv_aload_n hxR hbR dX0_ask_86 rfl (lv_at hl 1 rfl) ?_
              refine r_get hxR hbR hts hown hK hI okX0 (ci := 0) rfl 8 (he_l xW_o) 0 (by decide) q263 rfl (v := .ref (adn 10)) rfl dX0_ask_87 ?_
              refine lv_iload_n hxR hbR dX0_ask_90 rfl (lv_at hl 2 rfl) ?_
              refine lv_iconst (v := 1) hxR hbR dX0_ask_91 (by decide) ?_
              refine lv_icmp_ne (tgt := 99) hxR hbR dX0_ask_92 (by decide) (fun c_92 => ?_) (fun c_92 => ?_)
              · skip
                have i_92 : ¬ (w.toInt = 1) := by have zz := mt i_eq.mpr c_92; exact zz
                refine lv_aload_n hxR hbR dX0_ask_99 rfl (lv_at hl 1 rfl) ?_
                refine r_get hxR hbR hts hown hK hI okX0 (ci := 0) rfl 8 (he_l xW_o) 0 (by decide) q263 rfl (v := .ref (adn 10)) rfl dX0_ask_100 ?_
                refine r_get hxR hbR hts hown hK hI okX1 (ci := 1) rfl (14 + 0) (he_r (Nat.le_of_ble_eq_true rfl) (Nat.le_of_ble_eq_true rfl) tW_o) 5 (by decide) q151 rfl (v := .int (ivn 5)) (al (up_n (by decide) rfl)) dX0_ask_103 ?_
                refine r_put (v := .int (ivn 5)) (ws1 := xW E ad iv ch rd tp rf hd (adn 10) tr gr dy im ++ (tW E adn (va_up (va_up ivn 4 (ivn 4)) 5 (ivn 5)) hrn csn Sn)) hxR hbR hts hown hK hI okX1 (ci := 1) rfl (14 + 0) (he_r (Nat.le_of_ble_eq_true rfl) (Nat.le_of_ble_eq_true rfl) tW_o) 5 (by decide) q151 rfl rfl rfl rfl (Nat.le_of_ble_eq_true rfl) (hw_r (Nat.le_of_ble_eq_true rfl) (Nat.le_of_ble_eq_true rfl) tW_i5) dX0_ask_106 (fun H locs hI => ?_)
                refine lv_iload_n hxR hbR dX0_ask_109 rfl (lv_at hl 0 rfl) ?_
                have hC : askC w v = 0 := by
                  clear hret hI
                  unfold askC
                  repeat' split
                  all_goals first | rfl | (exfalso; omega) | contradiction | (exfalso; simp_all; done) | simp_all
                have erf : bumpR rf (askC w v) = rf := by rw [hC]; exact bump_0 _
                have eivn4 : gd (askC w v) (if w = 0 then v else ivn 4) (ivn 4) = ivn 4 := by rw [hC]; first | rfl | (simp only [gd_0]; split <;> first | rfl | contradiction) | (exfalso; omega)
                have eivn5 : gd (askC w v) (if w = 0 then ivn 5 else v) (ivn 5) = ivn 5 := by rw [hC]; first | rfl | (simp only [gd_0]; split <;> first | rfl | contradiction) | (exfalso; omega)
                have hI := wI_w (ws' := xW E ad iv ch rd tp (bumpR rf (askC w v)) hd (adn 10) tr gr dy im ++ (tW E adn (va_up (va_up ivn 4 (gd (askC w v) (if w = 0 then v else ivn 4) (ivn 4))) 5 (gd (askC w v) (if w = 0 then ivn 5 else v) (ivn 5))) hrn csn Sn)) (by rw [erf, eivn4, eivn5]; try rfl) hI
                exact hret () (ivn 5) _ _ 0 0 _ _ dX0_ask_110 hI (by show (ivn 5) = gd (askC w v) (if w = 0 then ivn 4 else ivn 5) (askC w v); rw [hC]; first | rfl | (simp only [gd_0]; split <;> first | rfl | contradiction)) (Nat.le_of_ble_eq_true rfl) (Nat.le_of_ble_eq_true rfl) rfl
              · skip
                have i_92 : w.toInt = 1 := by have zz := i_eq.mp c_92; exact zz
                refine lv_iload_n hxR hbR dX0_ask_95 rfl (lv_at hl 3 rfl) ?_
                refine lv_goto (tgt := 106) hxR hbR dX0_ask_96 (by decide) ?_
                refine r_put (v := .int v) (ws1 := xW E ad iv ch rd tp rf hd (adn 10) tr gr dy im ++ (tW E adn (va_up (va_up ivn 4 (ivn 4)) 5 v) hrn csn Sn)) hxR hbR hts hown hK hI okX1 (ci := 1) rfl (14 + 0) (he_r (Nat.le_of_ble_eq_true rfl) (Nat.le_of_ble_eq_true rfl) tW_o) 5 (by decide) q151 rfl rfl rfl rfl (Nat.le_of_ble_eq_true rfl) (hw_r (Nat.le_of_ble_eq_true rfl) (Nat.le_of_ble_eq_true rfl) tW_i5) dX0_ask_106 (fun H locs hI => ?_)
                refine lv_iload_n hxR hbR dX0_ask_109 rfl (lv_at hl 0 rfl) ?_
                have hC : askC w v = 0 := by
                  clear hret hI
                  unfold askC
                  repeat' split
                  all_goals first | rfl | (exfalso; omega) | contradiction | (exfalso; simp_all; done) | simp_all
                have erf : bumpR rf (askC w v) = rf := by rw [hC]; exact bump_0 _
                have eivn4 : gd (askC w v) (if w = 0 then v else ivn 4) (ivn 4) = ivn 4 := by rw [hC]; first | rfl | (simp only [gd_0]; split <;> first | rfl | contradiction) | (exfalso; omega)
                have eivn5 : gd (askC w v) (if w = 0 then ivn 5 else v) (ivn 5) = v := by rw [hC]; first | rfl | (simp only [gd_0]; split <;> first | rfl | contradiction) | (exfalso; omega)
                have hI := wI_w (ws' := xW E ad iv ch rd tp (bumpR rf (askC w v)) hd (adn 10) tr gr dy im ++ (tW E adn (va_up (va_up ivn 4 (gd (askC w v) (if w = 0 then v else ivn 4) (ivn 4))) 5 (gd (askC w v) (if w = 0 then ivn 5 else v) (ivn 5))) hrn csn Sn)) (by rw [erf, eivn4, eivn5]; try rfl) hI
                exact hret () (ivn 5) _ _ 0 0 _ _ dX0_ask_110 hI (by show (ivn 5) = gd (askC w v) (if w = 0 then ivn 4 else ivn 5) (askC w v); rw [hC]; first | rfl | (simp only [gd_0]; split <;> first | rfl | contradiction)) (Nat.le_of_ble_eq_true rfl) (Nat.le_of_ble_eq_true rfl) rfl
            · skip
              have i_69 : w.toInt = 0 := by have zz := i_eq.mp c_69; exact zz
              refine lv_iload_n hxR hbR dX0_ask_72 rfl (lv_at hl 3 rfl) ?_
              refine lv_goto (tgt := 83) hxR hbR dX0_ask_73 (by decide) ?_
              refine r_put (v := .int v) (ws1 := xW E ad iv ch rd tp rf hd (adn 10) tr gr dy im ++ (tW E adn (va_up ivn 4 v) hrn csn Sn)) hxR hbR hts hown hK hI okX1 (ci := 1) rfl (14 + 0) (he_r (Nat.le_of_ble_eq_true rfl) (Nat.le_of_ble_eq_true rfl) tW_o) 4 (by decide) q148 rfl rfl rfl rfl (Nat.le_of_ble_eq_true rfl) (hw_r (Nat.le_of_ble_eq_true rfl) (Nat.le_of_ble_eq_true rfl) tW_i4) dX0_ask_83 (fun H locs hI => ?_)
              refine lv_aload_n hxR hbR dX0_ask_86 rfl (lv_at hl 1 rfl) ?_
              refine r_get hxR hbR hts hown hK hI okX0 (ci := 0) rfl 8 (he_l xW_o) 0 (by decide) q263 rfl (v := .ref (adn 10)) rfl dX0_ask_87 ?_
              refine lv_iload_n hxR hbR dX0_ask_90 rfl (lv_at hl 2 rfl) ?_
              refine lv_iconst (v := 1) hxR hbR dX0_ask_91 (by decide) ?_
              refine lv_icmp_ne (tgt := 99) hxR hbR dX0_ask_92 (by decide) (fun c_92 => ?_) (fun c_92 => ?_)
              · skip
                have i_92 : ¬ (w.toInt = 1) := by have zz := mt i_eq.mpr c_92; exact zz
                refine lv_aload_n hxR hbR dX0_ask_99 rfl (lv_at hl 1 rfl) ?_
                refine r_get hxR hbR hts hown hK hI okX0 (ci := 0) rfl 8 (he_l xW_o) 0 (by decide) q263 rfl (v := .ref (adn 10)) rfl dX0_ask_100 ?_
                refine r_get hxR hbR hts hown hK hI okX1 (ci := 1) rfl (14 + 0) (he_r (Nat.le_of_ble_eq_true rfl) (Nat.le_of_ble_eq_true rfl) tW_o) 5 (by decide) q151 rfl (v := .int (ivn 5)) (al (up_n (by decide) rfl)) dX0_ask_103 ?_
                refine r_put (v := .int (ivn 5)) (ws1 := xW E ad iv ch rd tp rf hd (adn 10) tr gr dy im ++ (tW E adn (va_up (va_up ivn 4 v) 5 (ivn 5)) hrn csn Sn)) hxR hbR hts hown hK hI okX1 (ci := 1) rfl (14 + 0) (he_r (Nat.le_of_ble_eq_true rfl) (Nat.le_of_ble_eq_true rfl) tW_o) 5 (by decide) q151 rfl rfl rfl rfl (Nat.le_of_ble_eq_true rfl) (hw_r (Nat.le_of_ble_eq_true rfl) (Nat.le_of_ble_eq_true rfl) tW_i5) dX0_ask_106 (fun H locs hI => ?_)
                refine lv_iload_n hxR hbR dX0_ask_109 rfl (lv_at hl 0 rfl) ?_
                have hC : askC w v = 0 := by
                  clear hret hI
                  unfold askC
                  repeat' split
                  all_goals first | rfl | (exfalso; omega) | contradiction | (exfalso; simp_all; done) | simp_all
                have erf : bumpR rf (askC w v) = rf := by rw [hC]; exact bump_0 _
                have eivn4 : gd (askC w v) (if w = 0 then v else ivn 4) (ivn 4) = v := by rw [hC]; first | rfl | (simp only [gd_0]; split <;> first | rfl | contradiction) | (exfalso; omega)
                have eivn5 : gd (askC w v) (if w = 0 then ivn 5 else v) (ivn 5) = ivn 5 := by rw [hC]; first | rfl | (simp only [gd_0]; split <;> first | rfl | contradiction) | (exfalso; omega)
                have hI := wI_w (ws' := xW E ad iv ch rd tp (bumpR rf (askC w v)) hd (adn 10) tr gr dy im ++ (tW E adn (va_up (va_up ivn 4 (gd (askC w v) (if w = 0 then v else ivn 4) (ivn 4))) 5 (gd (askC w v) (if w = 0 then ivn 5 else v) (ivn 5))) hrn csn Sn)) (by rw [erf, eivn4, eivn5]; try rfl) hI
                exact hret () (ivn 5) _ _ 0 0 _ _ dX0_ask_110 hI (by show (ivn 5) = gd (askC w v) (if w = 0 then ivn 4 else ivn 5) (askC w v); rw [hC]; first | rfl | (simp only [gd_0]; split <;> first | rfl | contradiction)) (Nat.le_of_ble_eq_true rfl) (Nat.le_of_ble_eq_true rfl) rfl
              · skip
                have i_92 : w.toInt = 1 := by have zz := i_eq.mp c_92; exact zz
                refine lv_iload_n hxR hbR dX0_ask_95 rfl (lv_at hl 3 rfl) ?_
                refine lv_goto (tgt := 106) hxR hbR dX0_ask_96 (by decide) ?_
                refine r_put (v := .int v) (ws1 := xW E ad iv ch rd tp rf hd (adn 10) tr gr dy im ++ (tW E adn (va_up (va_up ivn 4 v) 5 v) hrn csn Sn)) hxR hbR hts hown hK hI okX1 (ci := 1) rfl (14 + 0) (he_r (Nat.le_of_ble_eq_true rfl) (Nat.le_of_ble_eq_true rfl) tW_o) 5 (by decide) q151 rfl rfl rfl rfl (Nat.le_of_ble_eq_true rfl) (hw_r (Nat.le_of_ble_eq_true rfl) (Nat.le_of_ble_eq_true rfl) tW_i5) dX0_ask_106 (fun H locs hI => ?_)
                refine lv_iload_n hxR hbR dX0_ask_109 rfl (lv_at hl 0 rfl) ?_
                have hC : askC w v = 0 := by
                  clear hret hI
                  unfold askC
                  repeat' split
                  all_goals first | rfl | (exfalso; omega) | contradiction | (exfalso; simp_all; done) | simp_all
                have erf : bumpR rf (askC w v) = rf := by rw [hC]; exact bump_0 _
                have eivn4 : gd (askC w v) (if w = 0 then v else ivn 4) (ivn 4) = v := by rw [hC]; first | rfl | (simp only [gd_0]; split <;> first | rfl | contradiction) | (exfalso; omega)
                have eivn5 : gd (askC w v) (if w = 0 then ivn 5 else v) (ivn 5) = v := by rw [hC]; first | rfl | (simp only [gd_0]; split <;> first | rfl | contradiction) | (exfalso; omega)
                have hI := wI_w (ws' := xW E ad iv ch rd tp (bumpR rf (askC w v)) hd (adn 10) tr gr dy im ++ (tW E adn (va_up (va_up ivn 4 (gd (askC w v) (if w = 0 then v else ivn 4) (ivn 4))) 5 (gd (askC w v) (if w = 0 then ivn 5 else v) (ivn 5))) hrn csn Sn)) (by rw [erf, eivn4, eivn5]; try rfl) hI
                exact hret () (ivn 5) _ _ 0 0 _ _ dX0_ask_110 hI (by show (ivn 5) = gd (askC w v) (if w = 0 then ivn 4 else ivn 5) (askC w v); rw [hC]; first | rfl | (simp only [gd_0]; split <;> first | rfl | contradiction)) (Nat.le_of_ble_eq_true rfl) (Nat.le_of_ble_eq_true rfl) rfl
          · skip
            have i_43 : w.toInt = 0 := by have zz := i_eq.mp c_43; exact zz
            refine lv_aload_n hxR hbR dX0_ask_46 rfl (lv_at hl 0 rfl) ?_
            refine r_get hxR hbR hts hown hK hI okX0 (ci := 0) rfl 8 (he_l xW_o) 0 (by decide) q263 rfl (v := .ref (adn 10)) rfl dX0_ask_47 ?_
            refine r_get hxR hbR hts hown hK hI okX1 (ci := 1) rfl (14 + 0) (he_r (Nat.le_of_ble_eq_true rfl) (Nat.le_of_ble_eq_true rfl) tW_o) 4 (by decide) q148 rfl (v := .int (ivn 4)) (al rfl) dX0_ask_50 ?_
            refine lv_goto (tgt := 63) hxR hbR dX0_ask_53 (by decide) ?_
            refine lv_istore_n (lv' := [(3, .int (ivn 4)), (0, .ref (ad 11)), (1, .int w), (2, .int v)]) hxR hbR dX0_ask_63 rfl hl (by decide) rfl (fun ls hl => ?_)
            refine lv_aload_n hxR hbR dX0_ask_64 rfl (lv_at hl 1 rfl) ?_
            refine r_get hxR hbR hts hown hK hI okX0 (ci := 0) rfl 8 (he_l xW_o) 0 (by decide) q263 rfl (v := .ref (adn 10)) rfl dX0_ask_65 ?_
            refine lv_iload_n hxR hbR dX0_ask_68 rfl (lv_at hl 2 rfl) ?_
            refine lv_if_ne (tgt := 76) hxR hbR dX0_ask_69 (by decide) (fun c_69 => ?_) (fun c_69 => ?_)
            · skip
              have i_69 : ¬ (w.toInt = 0) := by have zz := mt i_eq.mpr c_69; exact zz
              refine lv_aload_n hxR hbR dX0_ask_76 rfl (lv_at hl 1 rfl) ?_
              refine r_get hxR hbR hts hown hK hI okX0 (ci := 0) rfl 8 (he_l xW_o) 0 (by decide) q263 rfl (v := .ref (adn 10)) rfl dX0_ask_77 ?_
              refine r_get hxR hbR hts hown hK hI okX1 (ci := 1) rfl (14 + 0) (he_r (Nat.le_of_ble_eq_true rfl) (Nat.le_of_ble_eq_true rfl) tW_o) 4 (by decide) q148 rfl (v := .int (ivn 4)) (al rfl) dX0_ask_80 ?_
              refine r_put (v := .int (ivn 4)) (ws1 := xW E ad iv ch rd tp rf hd (adn 10) tr gr dy im ++ (tW E adn (va_up ivn 4 (ivn 4)) hrn csn Sn)) hxR hbR hts hown hK hI okX1 (ci := 1) rfl (14 + 0) (he_r (Nat.le_of_ble_eq_true rfl) (Nat.le_of_ble_eq_true rfl) tW_o) 4 (by decide) q148 rfl rfl rfl rfl (Nat.le_of_ble_eq_true rfl) (hw_r (Nat.le_of_ble_eq_true rfl) (Nat.le_of_ble_eq_true rfl) tW_i4) dX0_ask_83 (fun H locs hI => ?_)
              refine lv_aload_n hxR hbR dX0_ask_86 rfl (lv_at hl 1 rfl) ?_
              refine r_get hxR hbR hts hown hK hI okX0 (ci := 0) rfl 8 (he_l xW_o) 0 (by decide) q263 rfl (v := .ref (adn 10)) rfl dX0_ask_87 ?_
              refine lv_iload_n hxR hbR dX0_ask_90 rfl (lv_at hl 2 rfl) ?_
              refine lv_iconst (v := 1) hxR hbR dX0_ask_91 (by decide) ?_
              refine lv_icmp_ne (tgt := 99) hxR hbR dX0_ask_92 (by decide) (fun c_92 => ?_) (fun c_92 => ?_)
              · skip
                have i_92 : ¬ (w.toInt = 1) := by have zz := mt i_eq.mpr c_92; exact zz
                refine lv_aload_n hxR hbR dX0_ask_99 rfl (lv_at hl 1 rfl) ?_
                refine r_get hxR hbR hts hown hK hI okX0 (ci := 0) rfl 8 (he_l xW_o) 0 (by decide) q263 rfl (v := .ref (adn 10)) rfl dX0_ask_100 ?_
                refine r_get hxR hbR hts hown hK hI okX1 (ci := 1) rfl (14 + 0) (he_r (Nat.le_of_ble_eq_true rfl) (Nat.le_of_ble_eq_true rfl) tW_o) 5 (by decide) q151 rfl (v := .int (ivn 5)) (al (up_n (by decide) rfl)) dX0_ask_103 ?_
                refine r_put (v := .int (ivn 5)) (ws1 := xW E ad iv ch rd tp rf hd (adn 10) tr gr dy im ++ (tW E adn (va_up (va_up ivn 4 (ivn 4)) 5 (ivn 5)) hrn csn Sn)) hxR hbR hts hown hK hI okX1 (ci := 1) rfl (14 + 0) (he_r (Nat.le_of_ble_eq_true rfl) (Nat.le_of_ble_eq_true rfl) tW_o) 5 (by decide) q151 rfl rfl rfl rfl (Nat.le_of_ble_eq_true rfl) (hw_r (Nat.le_of_ble_eq_true rfl) (Nat.le_of_ble_eq_true rfl) tW_i5) dX0_ask_106 (fun H locs hI => ?_)
                refine lv_iload_n hxR hbR dX0_ask_109 rfl (lv_at hl 0 rfl) ?_
                have hC : askC w v = 0 := by
                  clear hret hI
                  unfold askC
                  repeat' split
                  all_goals first | rfl | (exfalso; omega) | contradiction | (exfalso; simp_all; done) | simp_all
                have erf : bumpR rf (askC w v) = rf := by rw [hC]; exact bump_0 _
                have eivn4 : gd (askC w v) (if w = 0 then v else ivn 4) (ivn 4) = ivn 4 := by rw [hC]; first | rfl | (simp only [gd_0]; split <;> first | rfl | contradiction) | (exfalso; omega)
                have eivn5 : gd (askC w v) (if w = 0 then ivn 5 else v) (ivn 5) = ivn 5 := by rw [hC]; first | rfl | (simp only [gd_0]; split <;> first | rfl | contradiction) | (exfalso; omega)
                have hI := wI_w (ws' := xW E ad iv ch rd tp (bumpR rf (askC w v)) hd (adn 10) tr gr dy im ++ (tW E adn (va_up (va_up ivn 4 (gd (askC w v) (if w = 0 then v else ivn 4) (ivn 4))) 5 (gd (askC w v) (if w = 0 then ivn 5 else v) (ivn 5))) hrn csn Sn)) (by rw [erf, eivn4, eivn5]; try rfl) hI
                exact hret () (ivn 4) _ _ 0 0 _ _ dX0_ask_110 hI (by show (ivn 4) = gd (askC w v) (if w = 0 then ivn 4 else ivn 5) (askC w v); rw [hC]; first | rfl | (simp only [gd_0]; split <;> first | rfl | contradiction)) (Nat.le_of_ble_eq_true rfl) (Nat.le_of_ble_eq_true rfl) rfl
              · skip
                have i_92 : w.toInt = 1 := by have zz := i_eq.mp c_92; exact zz
                refine lv_iload_n hxR hbR dX0_ask_95 rfl (lv_at hl 3 rfl) ?_
                refine lv_goto (tgt := 106) hxR hbR dX0_ask_96 (by decide) ?_
                refine r_put (v := .int v) (ws1 := xW E ad iv ch rd tp rf hd (adn 10) tr gr dy im ++ (tW E adn (va_up (va_up ivn 4 (ivn 4)) 5 v) hrn csn Sn)) hxR hbR hts hown hK hI okX1 (ci := 1) rfl (14 + 0) (he_r (Nat.le_of_ble_eq_true rfl) (Nat.le_of_ble_eq_true rfl) tW_o) 5 (by decide) q151 rfl rfl rfl rfl (Nat.le_of_ble_eq_true rfl) (hw_r (Nat.le_of_ble_eq_true rfl) (Nat.le_of_ble_eq_true rfl) tW_i5) dX0_ask_106 (fun H locs hI => ?_)
                refine lv_iload_n hxR hbR dX0_ask_109 rfl (lv_at hl 0 rfl) ?_
                have hC : askC w v = 0 := by
                  clear hret hI
                  unfold askC
                  repeat' split
                  all_goals first | rfl | (exfalso; omega) | contradiction | (exfalso; simp_all; done) | simp_all
                have erf : bumpR rf (askC w v) = rf := by rw [hC]; exact bump_0 _
                have eivn4 : gd (askC w v) (if w = 0 then v else ivn 4) (ivn 4) = ivn 4 := by rw [hC]; first | rfl | (simp only [gd_0]; split <;> first | rfl | contradiction) | (exfalso; omega)
                have eivn5 : gd (askC w v) (if w = 0 then ivn 5 else v) (ivn 5) = v := by rw [hC]; first | rfl | (simp only [gd_0]; split <;> first | rfl | contradiction) | (exfalso; omega)
                have hI := wI_w (ws' := xW E ad iv ch rd tp (bumpR rf (askC w v)) hd (adn 10) tr gr dy im ++ (tW E adn (va_up (va_up ivn 4 (gd (askC w v) (if w = 0 then v else ivn 4) (ivn 4))) 5 (gd (askC w v) (if w = 0 then ivn 5 else v) (ivn 5))) hrn csn Sn)) (by rw [erf, eivn4, eivn5]; try rfl) hI
                exact hret () (ivn 4) _ _ 0 0 _ _ dX0_ask_110 hI (by show (ivn 4) = gd (askC w v) (if w = 0 then ivn 4 else ivn 5) (askC w v); rw [hC]; first | rfl | (simp only [gd_0]; split <;> first | rfl | contradiction)) (Nat.le_of_ble_eq_true rfl) (Nat.le_of_ble_eq_true rfl) rfl
            · skip
              have i_69 : w.toInt = 0 := by have zz := i_eq.mp c_69; exact zz
              refine lv_iload_n hxR hbR dX0_ask_72 rfl (lv_at hl 3 rfl) ?_
              refine lv_goto (tgt := 83) hxR hbR dX0_ask_73 (by decide) ?_
              refine r_put (v := .int v) (ws1 := xW E ad iv ch rd tp rf hd (adn 10) tr gr dy im ++ (tW E adn (va_up ivn 4 v) hrn csn Sn)) hxR hbR hts hown hK hI okX1 (ci := 1) rfl (14 + 0) (he_r (Nat.le_of_ble_eq_true rfl) (Nat.le_of_ble_eq_true rfl) tW_o) 4 (by decide) q148 rfl rfl rfl rfl (Nat.le_of_ble_eq_true rfl) (hw_r (Nat.le_of_ble_eq_true rfl) (Nat.le_of_ble_eq_true rfl) tW_i4) dX0_ask_83 (fun H locs hI => ?_)
              refine lv_aload_n hxR hbR dX0_ask_86 rfl (lv_at hl 1 rfl) ?_
              refine r_get hxR hbR hts hown hK hI okX0 (ci := 0) rfl 8 (he_l xW_o) 0 (by decide) q263 rfl (v := .ref (adn 10)) rfl dX0_ask_87 ?_
              refine lv_iload_n hxR hbR dX0_ask_90 rfl (lv_at hl 2 rfl) ?_
              refine lv_iconst (v := 1) hxR hbR dX0_ask_91 (by decide) ?_
              refine lv_icmp_ne (tgt := 99) hxR hbR dX0_ask_92 (by decide) (fun c_92 => ?_) (fun c_92 => ?_)
              · skip
                have i_92 : ¬ (w.toInt = 1) := by have zz := mt i_eq.mpr c_92; exact zz
                refine lv_aload_n hxR hbR dX0_ask_99 rfl (lv_at hl 1 rfl) ?_
                refine r_get hxR hbR hts hown hK hI okX0 (ci := 0) rfl 8 (he_l xW_o) 0 (by decide) q263 rfl (v := .ref (adn 10)) rfl dX0_ask_100 ?_
                refine r_get hxR hbR hts hown hK hI okX1 (ci := 1) rfl (14 + 0) (he_r (Nat.le_of_ble_eq_true rfl) (Nat.le_of_ble_eq_true rfl) tW_o) 5 (by decide) q151 rfl (v := .int (ivn 5)) (al (up_n (by decide) rfl)) dX0_ask_103 ?_
                refine r_put (v := .int (ivn 5)) (ws1 := xW E ad iv ch rd tp rf hd (adn 10) tr gr dy im ++ (tW E adn (va_up (va_up ivn 4 v) 5 (ivn 5)) hrn csn Sn)) hxR hbR hts hown hK hI okX1 (ci := 1) rfl (14 + 0) (he_r (Nat.le_of_ble_eq_true rfl) (Nat.le_of_ble_eq_true rfl) tW_o) 5 (by decide) q151 rfl rfl rfl rfl (Nat.le_of_ble_eq_true rfl) (hw_r (Nat.le_of_ble_eq_true rfl) (Nat.le_of_ble_eq_true rfl) tW_i5) dX0_ask_106 (fun H locs hI => ?_)
                refine lv_iload_n hxR hbR dX0_ask_109 rfl (lv_at hl 0 rfl) ?_
                have hC : askC w v = 0 := by
                  clear hret hI
                  unfold askC
                  repeat' split
                  all_goals first | rfl | (exfalso; omega) | contradiction | (exfalso; simp_all; done) | simp_all
                have erf : bumpR rf (askC w v) = rf := by rw [hC]; exact bump_0 _
                have eivn4 : gd (askC w v) (if w = 0 then v else ivn 4) (ivn 4) = v := by rw [hC]; first | rfl | (simp only [gd_0]; split <;> first | rfl | contradiction) | (exfalso; omega)
                have eivn5 : gd (askC w v) (if w = 0 then ivn 5 else v) (ivn 5) = ivn 5 := by rw [hC]; first | rfl | (simp only [gd_0]; split <;> first | rfl | contradiction) | (exfalso; omega)
                have hI := wI_w (ws' := xW E ad iv ch rd tp (bumpR rf (askC w v)) hd (adn 10) tr gr dy im ++ (tW E adn (va_up (va_up ivn 4 (gd (askC w v) (if w = 0 then v else ivn 4) (ivn 4))) 5 (gd (askC w v) (if w = 0 then ivn 5 else v) (ivn 5))) hrn csn Sn)) (by rw [erf, eivn4, eivn5]; try rfl) hI
                exact hret () (ivn 4) _ _ 0 0 _ _ dX0_ask_110 hI (by show (ivn 4) = gd (askC w v) (if w = 0 then ivn 4 else ivn 5) (askC w v); rw [hC]; first | rfl | (simp only [gd_0]; split <;> first | rfl | contradiction)) (Nat.le_of_ble_eq_true rfl) (Nat.le_of_ble_eq_true rfl) rfl
              · skip
                have i_92 : w.toInt = 1 := by have zz := i_eq.mp c_92; exact zz
                refine lv_iload_n hxR hbR dX0_ask_95 rfl (lv_at hl 3 rfl) ?_
                refine lv_goto (tgt := 106) hxR hbR dX0_ask_96 (by decide) ?_
                refine r_put (v := .int v) (ws1 := xW E ad iv ch rd tp rf hd (adn 10) tr gr dy im ++ (tW E adn (va_up (va_up ivn 4 v) 5 v) hrn csn Sn)) hxR hbR hts hown hK hI okX1 (ci := 1) rfl (14 + 0) (he_r (Nat.le_of_ble_eq_true rfl) (Nat.le_of_ble_eq_true rfl) tW_o) 5 (by decide) q151 rfl rfl rfl rfl (Nat.le_of_ble_eq_true rfl) (hw_r (Nat.le_of_ble_eq_true rfl) (Nat.le_of_ble_eq_true rfl) tW_i5) dX0_ask_106 (fun H locs hI => ?_)
                refine lv_iload_n hxR hbR dX0_ask_109 rfl (lv_at hl 0 rfl) ?_
                have hC : askC w v = 0 := by
                  clear hret hI
                  unfold askC
                  repeat' split
                  all_goals first | rfl | (exfalso; omega) | contradiction | (exfalso; simp_all; done) | simp_all
                have erf : bumpR rf (askC w v) = rf := by rw [hC]; exact bump_0 _
                have eivn4 : gd (askC w v) (if w = 0 then v else ivn 4) (ivn 4) = v := by rw [hC]; first | rfl | (simp only [gd_0]; split <;> first | rfl | contradiction) | (exfalso; omega)
                have eivn5 : gd (askC w v) (if w = 0 then ivn 5 else v) (ivn 5) = v := by rw [hC]; first | rfl | (simp only [gd_0]; split <;> first | rfl | contradiction) | (exfalso; omega)
                have hI := wI_w (ws' := xW E ad iv ch rd tp (bumpR rf (askC w v)) hd (adn 10) tr gr dy im ++ (tW E adn (va_up (va_up ivn 4 (gd (askC w v) (if w = 0 then v else ivn 4) (ivn 4))) 5 (gd (askC w v) (if w = 0 then ivn 5 else v) (ivn 5))) hrn csn Sn)) (by rw [erf, eivn4, eivn5]; try rfl) hI
                exact hret () (ivn 4) _ _ 0 0 _ _ dX0_ask_110 hI (by show (ivn 4) = gd (askC w v) (if w = 0 then ivn 4 else ivn 5) (askC w v); rw [hC]; first | rfl | (simp only [gd_0]; split <;> first | rfl | contradiction)) (Nat.le_of_ble_eq_true rfl) (Nat.le_of_ble_eq_true rfl) rfl
        · skip
          have c_29 : ¬ (Int32.toInt 2 ≤ Int32.toInt v ∧ Int32.toInt v ≤ Int32.toInt 99) := of_decide_eq_false c_29
          have c_29 : ¬ (2 ≤ v.toInt ∧ v.toInt ≤ 99) := by exact c_29
          refine lv_if_ne (tgt := 42) hxR hbR dX0_ask_32 (by decide) (fun c => absurd c (by decide)) (fun _ => ?_)
          refine lv_aload_n hxR hbR dX0_ask_35 rfl (lv_at hl 0 rfl) ?_
          refine lv_bipush (v := (-2)) hxR hbR dX0_ask_36 (by decide) ?_
          refine kVI (n := 1) (As := [.int (-2)]) (rest := []) (fun w => w ++ (tW E adn ivn hrn csn Sn)) hxR hbR hmlR hts hown hK hA hl.1 (isCtx.suf _) hI (c0_no l E ad iv ch rd tp rf hd (adn 10) tr gr dy im (-2) 2 (by decide) (by decide)) (lw_V q396 q398 qs2 q81 q399) ⟨rfl, by decide +kernel⟩ 8 0 rfl rfl xW_o rfl (Nat.le_of_ble_eq_true rfl) (Nat.le_of_ble_eq_true rfl) ⟨Nat.le_of_ble_eq_true rfl, Nat.le_of_ble_eq_true rfl⟩ (Nat.le_of_ble_eq_true rfl) dX0_ask_38 (fun r_38 u H locs hp hI hz => ?_)
          have hI : wI E AR sR H locs (xW E ad iv ch rd tp (va_up rf 2 (rf 2 + 1)) hd (adn 10) tr gr dy im ++ (tW E adn ivn hrn csn Sn)) := hI
          have hp : r_38 = (-2) := hp
          have hr_38 := hp
          subst hr_38
          have hC : askC w v = (-2) := by
            clear hret hI
            unfold askC
            repeat' split
            all_goals first | rfl | (exfalso; omega) | contradiction | (exfalso; simp_all; done) | simp_all
          have erf : bumpR rf (askC w v) = va_up rf 2 (rf 2 + 1) := by rw [hC]; exact bump_2 _
          have eivn4 : gd (askC w v) (if w = 0 then v else ivn 4) (ivn 4) = ivn 4 := by rw [hC]; first | rfl | (simp only [gd_0]; split <;> first | rfl | contradiction) | (exfalso; omega)
          have eivn5 : gd (askC w v) (if w = 0 then ivn 5 else v) (ivn 5) = ivn 5 := by rw [hC]; first | rfl | (simp only [gd_0]; split <;> first | rfl | contradiction) | (exfalso; omega)
          have hI := wI_w (ws' := xW E ad iv ch rd tp (bumpR rf (askC w v)) hd (adn 10) tr gr dy im ++ (tW E adn (va_up (va_up ivn 4 (gd (askC w v) (if w = 0 then v else ivn 4) (ivn 4))) 5 (gd (askC w v) (if w = 0 then ivn 5 else v) (ivn 5))) hrn csn Sn)) (by rw [erf, eivn4, eivn5, va_up_id (f := ivn) (k := 4) (v := ivn 4) rfl, va_up_id (f := ivn) (k := 5) (v := ivn 5) rfl]; try rfl) hI
          exact hret () (-2) _ _ 0 0 _ _ dX0_ask_41 hI (by show (-2) = gd (askC w v) (if w = 0 then ivn 4 else ivn 5) (askC w v); rw [hC]; first | rfl | (simp only [gd_0]; split <;> first | rfl | contradiction)) (Nat.le_of_ble_eq_true rfl) (Nat.le_of_ble_eq_true rfl) rfl
      · skip
        have i_20 : w.toInt = 0 := by have zz := i_eq.mp c_20; exact zz
        refine lv_iconst (v := 4) hxR hbR dX0_ask_23 (by decide) ?_
        refine lv_goto (tgt := 29) hxR hbR dX0_ask_24 (by decide) ?_
        refine kSI (n := 3) (As := [.int v, .int 2, .int 4]) (rest := []) (fun w => w ++ (xW E ad iv ch rd tp rf hd (adn 10) tr gr dy im ++ (tW E adn ivn hrn csn Sn))) hxR hbR hmlR hts hown hK hA hl.1 (isCtx.suf _) hI (c0_isIn l E  v 2 4 ) (lw_S q393 q394 q81 q395) (by decide +kernel) rfl (Nat.le_of_ble_eq_true rfl) (Nat.le_of_ble_eq_true rfl) ⟨Nat.le_of_ble_eq_true rfl, Nat.le_of_ble_eq_true rfl⟩ (Nat.le_of_ble_eq_true rfl) dX0_ask_29 (fun r_29 u H locs hp hI hz => ?_)
        have hI : wI E AR sR H locs (xW E ad iv ch rd tp rf hd (adn 10) tr gr dy im ++ (tW E adn ivn hrn csn Sn)) := hI
        have hp : r_29 = b2i (decide (Int32.toInt 2 ≤ Int32.toInt v ∧ Int32.toInt v ≤ Int32.toInt 4)) := hp
        have hr_29 := hp
        rcases b2i_cases hr_29 with ⟨c_29, rfl⟩ | ⟨c_29, rfl⟩
        · skip
          have c_29 : Int32.toInt 2 ≤ Int32.toInt v ∧ Int32.toInt v ≤ Int32.toInt 4 := of_decide_eq_true c_29
          have c_29 : 2 ≤ v.toInt ∧ v.toInt ≤ 4 := by exact c_29
          refine lv_if_ne (tgt := 42) hxR hbR dX0_ask_32 (by decide) (fun _ => ?_) (fun c => absurd c (by decide))
          refine lv_iload_n hxR hbR dX0_ask_42 rfl (lv_at hl 1 rfl) ?_
          refine lv_if_ne (tgt := 56) hxR hbR dX0_ask_43 (by decide) (fun c_43 => ?_) (fun c_43 => ?_)
          · skip
            have i_43 : ¬ (w.toInt = 0) := by have zz := mt i_eq.mpr c_43; exact zz
            refine lv_aload_n hxR hbR dX0_ask_56 rfl (lv_at hl 0 rfl) ?_
            refine r_get hxR hbR hts hown hK hI okX0 (ci := 0) rfl 8 (he_l xW_o) 0 (by decide) q263 rfl (v := .ref (adn 10)) rfl dX0_ask_57 ?_
            refine r_get hxR hbR hts hown hK hI okX1 (ci := 1) rfl (14 + 0) (he_r (Nat.le_of_ble_eq_true rfl) (Nat.le_of_ble_eq_true rfl) tW_o) 5 (by decide) q151 rfl (v := .int (ivn 5)) (al rfl) dX0_ask_60 ?_
            refine lv_istore_n (lv' := [(3, .int (ivn 5)), (0, .ref (ad 11)), (1, .int w), (2, .int v)]) hxR hbR dX0_ask_63 rfl hl (by decide) rfl (fun ls hl => ?_)
            refine lv_aload_n hxR hbR dX0_ask_64 rfl (lv_at hl 1 rfl) ?_
            refine r_get hxR hbR hts hown hK hI okX0 (ci := 0) rfl 8 (he_l xW_o) 0 (by decide) q263 rfl (v := .ref (adn 10)) rfl dX0_ask_65 ?_
            refine lv_iload_n hxR hbR dX0_ask_68 rfl (lv_at hl 2 rfl) ?_
            refine lv_if_ne (tgt := 76) hxR hbR dX0_ask_69 (by decide) (fun c_69 => ?_) (fun c_69 => ?_)
            · skip
              have i_69 : ¬ (w.toInt = 0) := by have zz := mt i_eq.mpr c_69; exact zz
              refine lv_aload_n hxR hbR dX0_ask_76 rfl (lv_at hl 1 rfl) ?_
              refine r_get hxR hbR hts hown hK hI okX0 (ci := 0) rfl 8 (he_l xW_o) 0 (by decide) q263 rfl (v := .ref (adn 10)) rfl dX0_ask_77 ?_
              refine r_get hxR hbR hts hown hK hI okX1 (ci := 1) rfl (14 + 0) (he_r (Nat.le_of_ble_eq_true rfl) (Nat.le_of_ble_eq_true rfl) tW_o) 4 (by decide) q148 rfl (v := .int (ivn 4)) (al rfl) dX0_ask_80 ?_
              refine r_put (v := .int (ivn 4)) (ws1 := xW E ad iv ch rd tp rf hd (adn 10) tr gr dy im ++ (tW E adn (va_up ivn 4 (ivn 4)) hrn csn Sn)) hxR hbR hts hown hK hI okX1 (ci := 1) rfl (14 + 0) (he_r (Nat.le_of_ble_eq_true rfl) (Nat.le_of_ble_eq_true rfl) tW_o) 4 (by decide) q148 rfl rfl rfl rfl (Nat.le_of_ble_eq_true rfl) (hw_r (Nat.le_of_ble_eq_true rfl) (Nat.le_of_ble_eq_true rfl) tW_i4) dX0_ask_83 (fun H locs hI => ?_)
              refine lv_aload_n hxR hbR dX0_ask_86 rfl (lv_at hl 1 rfl) ?_
              refine r_get hxR hbR hts hown hK hI okX0 (ci := 0) rfl 8 (he_l xW_o) 0 (by decide) q263 rfl (v := .ref (adn 10)) rfl dX0_ask_87 ?_
              refine lv_iload_n hxR hbR dX0_ask_90 rfl (lv_at hl 2 rfl) ?_
              refine lv_iconst (v := 1) hxR hbR dX0_ask_91 (by decide) ?_
              refine lv_icmp_ne (tgt := 99) hxR hbR dX0_ask_92 (by decide) (fun c_92 => ?_) (fun c_92 => ?_)
              · skip
                have i_92 : ¬ (w.toInt = 1) := by have zz := mt i_eq.mpr c_92; exact zz
                refine lv_aload_n hxR hbR dX0_ask_99 rfl (lv_at hl 1 rfl) ?_
                refine r_get hxR hbR hts hown hK hI okX0 (ci := 0) rfl 8 (he_l xW_o) 0 (by decide) q263 rfl (v := .ref (adn 10)) rfl dX0_ask_100 ?_
                refine r_get hxR hbR hts hown hK hI okX1 (ci := 1) rfl (14 + 0) (he_r (Nat.le_of_ble_eq_true rfl) (Nat.le_of_ble_eq_true rfl) tW_o) 5 (by decide) q151 rfl (v := .int (ivn 5)) (al (up_n (by decide) rfl)) dX0_ask_103 ?_
                refine r_put (v := .int (ivn 5)) (ws1 := xW E ad iv ch rd tp rf hd (adn 10) tr gr dy im ++ (tW E adn (va_up (va_up ivn 4 (ivn 4)) 5 (ivn 5)) hrn csn Sn)) hxR hbR hts hown hK hI okX1 (ci := 1) rfl (14 + 0) (he_r (Nat.le_of_ble_eq_true rfl) (Nat.le_of_ble_eq_true rfl) tW_o) 5 (by decide) q151 rfl rfl rfl rfl (Nat.le_of_ble_eq_true rfl) (hw_r (Nat.le_of_ble_eq_true rfl) (Nat.le_of_ble_eq_true rfl) tW_i5) dX0_ask_106 (fun H locs hI => ?_)
                refine lv_iload_n hxR hbR dX0_ask_109 rfl (lv_at hl 0 rfl) ?_
                have hC : askC w v = 0 := by
                  clear hret hI
                  unfold askC
                  repeat' split
                  all_goals first | rfl | (exfalso; omega) | contradiction | (exfalso; simp_all; done) | simp_all
                have erf : bumpR rf (askC w v) = rf := by rw [hC]; exact bump_0 _
                have eivn4 : gd (askC w v) (if w = 0 then v else ivn 4) (ivn 4) = ivn 4 := by rw [hC]; first | rfl | (simp only [gd_0]; split <;> first | rfl | contradiction) | (exfalso; omega)
                have eivn5 : gd (askC w v) (if w = 0 then ivn 5 else v) (ivn 5) = ivn 5 := by rw [hC]; first | rfl | (simp only [gd_0]; split <;> first | rfl | contradiction) | (exfalso; omega)
                have hI := wI_w (ws' := xW E ad iv ch rd tp (bumpR rf (askC w v)) hd (adn 10) tr gr dy im ++ (tW E adn (va_up (va_up ivn 4 (gd (askC w v) (if w = 0 then v else ivn 4) (ivn 4))) 5 (gd (askC w v) (if w = 0 then ivn 5 else v) (ivn 5))) hrn csn Sn)) (by rw [erf, eivn4, eivn5]; try rfl) hI
                exact hret () (ivn 5) _ _ 0 0 _ _ dX0_ask_110 hI (by show (ivn 5) = gd (askC w v) (if w = 0 then ivn 4 else ivn 5) (askC w v); rw [hC]; first | rfl | (simp only [gd_0]; split <;> first | rfl | contradiction)) (Nat.le_of_ble_eq_true rfl) (Nat.le_of_ble_eq_true rfl) rfl
              · skip
                have i_92 : w.toInt = 1 := by have zz := i_eq.mp c_92; exact zz
                refine lv_iload_n hxR hbR dX0_ask_95 rfl (lv_at hl 3 rfl) ?_
                refine lv_goto (tgt := 106) hxR hbR dX0_ask_96 (by decide) ?_
                refine r_put (v := .int v) (ws1 := xW E ad iv ch rd tp rf hd (adn 10) tr gr dy im ++ (tW E adn (va_up (va_up ivn 4 (ivn 4)) 5 v) hrn csn Sn)) hxR hbR hts hown hK hI okX1 (ci := 1) rfl (14 + 0) (he_r (Nat.le_of_ble_eq_true rfl) (Nat.le_of_ble_eq_true rfl) tW_o) 5 (by decide) q151 rfl rfl rfl rfl (Nat.le_of_ble_eq_true rfl) (hw_r (Nat.le_of_ble_eq_true rfl) (Nat.le_of_ble_eq_true rfl) tW_i5) dX0_ask_106 (fun H locs hI => ?_)
                refine lv_iload_n hxR hbR dX0_ask_109 rfl (lv_at hl 0 rfl) ?_
                have hC : askC w v = 0 := by
                  clear hret hI
                  unfold askC
                  repeat' split
                  all_goals first | rfl | (exfalso; omega) | contradiction | (exfalso; simp_all; done) | simp_all
                have erf : bumpR rf (askC w v) = rf := by rw [hC]; exact bump_0 _
                have eivn4 : gd (askC w v) (if w = 0 then v else ivn 4) (ivn 4) = ivn 4 := by rw [hC]; first | rfl | (simp only [gd_0]; split <;> first | rfl | contradiction) | (exfalso; omega)
                have eivn5 : gd (askC w v) (if w = 0 then ivn 5 else v) (ivn 5) = v := by rw [hC]; first | rfl | (simp only [gd_0]; split <;> first | rfl | contradiction) | (exfalso; omega)
                have hI := wI_w (ws' := xW E ad iv ch rd tp (bumpR rf (askC w v)) hd (adn 10) tr gr dy im ++ (tW E adn (va_up (va_up ivn 4 (gd (askC w v) (if w = 0 then v else ivn 4) (ivn 4))) 5 (gd (askC w v) (if w = 0 then ivn 5 else v) (ivn 5))) hrn csn Sn)) (by rw [erf, eivn4, eivn5]; try rfl) hI
                exact hret () (ivn 5) _ _ 0 0 _ _ dX0_ask_110 hI (by show (ivn 5) = gd (askC w v) (if w = 0 then ivn 4 else ivn 5) (askC w v); rw [hC]; first | rfl | (simp only [gd_0]; split <;> first | rfl | contradiction)) (Nat.le_of_ble_eq_true rfl) (Nat.le_of_ble_eq_true rfl) rfl
            · skip
              have i_69 : w.toInt = 0 := by have zz := i_eq.mp c_69; exact zz
              refine lv_iload_n hxR hbR dX0_ask_72 rfl (lv_at hl 3 rfl) ?_
              refine lv_goto (tgt := 83) hxR hbR dX0_ask_73 (by decide) ?_
              refine r_put (v := .int v) (ws1 := xW E ad iv ch rd tp rf hd (adn 10) tr gr dy im ++ (tW E adn (va_up ivn 4 v) hrn csn Sn)) hxR hbR hts hown hK hI okX1 (ci := 1) rfl (14 + 0) (he_r (Nat.le_of_ble_eq_true rfl) (Nat.le_of_ble_eq_true rfl) tW_o) 4 (by decide) q148 rfl rfl rfl rfl (Nat.le_of_ble_eq_true rfl) (hw_r (Nat.le_of_ble_eq_true rfl) (Nat.le_of_ble_eq_true rfl) tW_i4) dX0_ask_83 (fun H locs hI => ?_)
              refine lv_aload_n hxR hbR dX0_ask_86 rfl (lv_at hl 1 rfl) ?_
              refine r_get hxR hbR hts hown hK hI okX0 (ci := 0) rfl 8 (he_l xW_o) 0 (by decide) q263 rfl (v := .ref (adn 10)) rfl dX0_ask_87 ?_
              refine lv_iload_n hxR hbR dX0_ask_90 rfl (lv_at hl 2 rfl) ?_
              refine lv_iconst (v := 1) hxR hbR dX0_ask_91 (by decide) ?_
              refine lv_icmp_ne (tgt := 99) hxR hbR dX0_ask_92 (by decide) (fun c_92 => ?_) (fun c_92 => ?_)
              · skip
                have i_92 : ¬ (w.toInt = 1) := by have zz := mt i_eq.mpr c_92; exact zz
                refine lv_aload_n hxR hbR dX0_ask_99 rfl (lv_at hl 1 rfl) ?_
                refine r_get hxR hbR hts hown hK hI okX0 (ci := 0) rfl 8 (he_l xW_o) 0 (by decide) q263 rfl (v := .ref (adn 10)) rfl dX0_ask_100 ?_
                refine r_get hxR hbR hts hown hK hI okX1 (ci := 1) rfl (14 + 0) (he_r (Nat.le_of_ble_eq_true rfl) (Nat.le_of_ble_eq_true rfl) tW_o) 5 (by decide) q151 rfl (v := .int (ivn 5)) (al (up_n (by decide) rfl)) dX0_ask_103 ?_
                refine r_put (v := .int (ivn 5)) (ws1 := xW E ad iv ch rd tp rf hd (adn 10) tr gr dy im ++ (tW E adn (va_up (va_up ivn 4 v) 5 (ivn 5)) hrn csn Sn)) hxR hbR hts hown hK hI okX1 (ci := 1) rfl (14 + 0) (he_r (Nat.le_of_ble_eq_true rfl) (Nat.le_of_ble_eq_true rfl) tW_o) 5 (by decide) q151 rfl rfl rfl rfl (Nat.le_of_ble_eq_true rfl) (hw_r (Nat.le_of_ble_eq_true rfl) (Nat.le_of_ble_eq_true rfl) tW_i5) dX0_ask_106 (fun H locs hI => ?_)
                refine lv_iload_n hxR hbR dX0_ask_109 rfl (lv_at hl 0 rfl) ?_
                have hC : askC w v = 0 := by
                  clear hret hI
                  unfold askC
                  repeat' split
                  all_goals first | rfl | (exfalso; omega) | contradiction | (exfalso; simp_all; done) | simp_all
                have erf : bumpR rf (askC w v) = rf := by rw [hC]; exact bump_0 _
                have eivn4 : gd (askC w v) (if w = 0 then v else ivn 4) (ivn 4) = v := by rw [hC]; first | rfl | (simp only [gd_0]; split <;> first | rfl | contradiction) | (exfalso; omega)
                have eivn5 : gd (askC w v) (if w = 0 then ivn 5 else v) (ivn 5) = ivn 5 := by rw [hC]; first | rfl | (simp only [gd_0]; split <;> first | rfl | contradiction) | (exfalso; omega)
                have hI := wI_w (ws' := xW E ad iv ch rd tp (bumpR rf (askC w v)) hd (adn 10) tr gr dy im ++ (tW E adn (va_up (va_up ivn 4 (gd (askC w v) (if w = 0 then v else ivn 4) (ivn 4))) 5 (gd (askC w v) (if w = 0 then ivn 5 else v) (ivn 5))) hrn csn Sn)) (by rw [erf, eivn4, eivn5]; try rfl) hI
                exact hret () (ivn 5) _ _ 0 0 _ _ dX0_ask_110 hI (by show (ivn 5) = gd (askC w v) (if w = 0 then ivn 4 else ivn 5) (askC w v); rw [hC]; first | rfl | (simp only [gd_0]; split <;> first | rfl | contradiction)) (Nat.le_of_ble_eq_true rfl) (Nat.le_of_ble_eq_true rfl) rfl
              · skip
                have i_92 : w.toInt = 1 := by have zz := i_eq.mp c_92; exact zz
                refine lv_iload_n hxR hbR dX0_ask_95 rfl (lv_at hl 3 rfl) ?_
                refine lv_goto (tgt := 106) hxR hbR dX0_ask_96 (by decide) ?_
                refine r_put (v := .int v) (ws1 := xW E ad iv ch rd tp rf hd (adn 10) tr gr dy im ++ (tW E adn (va_up (va_up ivn 4 v) 5 v) hrn csn Sn)) hxR hbR hts hown hK hI okX1 (ci := 1) rfl (14 + 0) (he_r (Nat.le_of_ble_eq_true rfl) (Nat.le_of_ble_eq_true rfl) tW_o) 5 (by decide) q151 rfl rfl rfl rfl (Nat.le_of_ble_eq_true rfl) (hw_r (Nat.le_of_ble_eq_true rfl) (Nat.le_of_ble_eq_true rfl) tW_i5) dX0_ask_106 (fun H locs hI => ?_)
                refine lv_iload_n hxR hbR dX0_ask_109 rfl (lv_at hl 0 rfl) ?_
                have hC : askC w v = 0 := by
                  clear hret hI
                  unfold askC
                  repeat' split
                  all_goals first | rfl | (exfalso; omega) | contradiction | (exfalso; simp_all; done) | simp_all
                have erf : bumpR rf (askC w v) = rf := by rw [hC]; exact bump_0 _
                have eivn4 : gd (askC w v) (if w = 0 then v else ivn 4) (ivn 4) = v := by rw [hC]; first | rfl | (simp only [gd_0]; split <;> first | rfl | contradiction) | (exfalso; omega)
                have eivn5 : gd (askC w v) (if w = 0 then ivn 5 else v) (ivn 5) = v := by rw [hC]; first | rfl | (simp only [gd_0]; split <;> first | rfl | contradiction) | (exfalso; omega)
                have hI := wI_w (ws' := xW E ad iv ch rd tp (bumpR rf (askC w v)) hd (adn 10) tr gr dy im ++ (tW E adn (va_up (va_up ivn 4 (gd (askC w v) (if w = 0 then v else ivn 4) (ivn 4))) 5 (gd (askC w v) (if w = 0 then ivn 5 else v) (ivn 5))) hrn csn Sn)) (by rw [erf, eivn4, eivn5]; try rfl) hI
                exact hret () (ivn 5) _ _ 0 0 _ _ dX0_ask_110 hI (by show (ivn 5) = gd (askC w v) (if w = 0 then ivn 4 else ivn 5) (askC w v); rw [hC]; first | rfl | (simp only [gd_0]; split <;> first | rfl | contradiction)) (Nat.le_of_ble_eq_true rfl) (Nat.le_of_ble_eq_true rfl) rfl
          · skip
            have i_43 : w.toInt = 0 := by have zz := i_eq.mp c_43; exact zz
            refine lv_aload_n hxR hbR dX0_ask_46 rfl (lv_at hl 0 rfl) ?_
            refine r_get hxR hbR hts hown hK hI okX0 (ci := 0) rfl 8 (he_l xW_o) 0 (by decide) q263 rfl (v := .ref (adn 10)) rfl dX0_ask_47 ?_
            refine r_get hxR hbR hts hown hK hI okX1 (ci := 1) rfl (14 + 0) (he_r (Nat.le_of_ble_eq_true rfl) (Nat.le_of_ble_eq_true rfl) tW_o) 4 (by decide) q148 rfl (v := .int (ivn 4)) (al rfl) dX0_ask_50 ?_
            refine lv_goto (tgt := 63) hxR hbR dX0_ask_53 (by decide) ?_
            refine lv_istore_n (lv' := [(3, .int (ivn 4)), (0, .ref (ad 11)), (1, .int w), (2, .int v)]) hxR hbR dX0_ask_63 rfl hl (by decide) rfl (fun ls hl => ?_)
            refine lv_aload_n hxR hbR dX0_ask_64 rfl (lv_at hl 1 rfl) ?_
            refine r_get hxR hbR hts hown hK hI okX0 (ci := 0) rfl 8 (he_l xW_o) 0 (by decide) q263 rfl (v := .ref (adn 10)) rfl dX0_ask_65 ?_
            refine lv_iload_n hxR hbR dX0_ask_68 rfl (lv_at hl 2 rfl) ?_
            refine lv_if_ne (tgt := 76) hxR hbR dX0_ask_69 (by decide) (fun c_69 => ?_) (fun c_69 => ?_)
            · skip
              have i_69 : ¬ (w.toInt = 0) := by have zz := mt i_eq.mpr c_69; exact zz
              refine lv_aload_n hxR hbR dX0_ask_76 rfl (lv_at hl 1 rfl) ?_
              refine r_get hxR hbR hts hown hK hI okX0 (ci := 0) rfl 8 (he_l xW_o) 0 (by decide) q263 rfl (v := .ref (adn 10)) rfl dX0_ask_77 ?_
              refine r_get hxR hbR hts hown hK hI okX1 (ci := 1) rfl (14 + 0) (he_r (Nat.le_of_ble_eq_true rfl) (Nat.le_of_ble_eq_true rfl) tW_o) 4 (by decide) q148 rfl (v := .int (ivn 4)) (al rfl) dX0_ask_80 ?_
              refine r_put (v := .int (ivn 4)) (ws1 := xW E ad iv ch rd tp rf hd (adn 10) tr gr dy im ++ (tW E adn (va_up ivn 4 (ivn 4)) hrn csn Sn)) hxR hbR hts hown hK hI okX1 (ci := 1) rfl (14 + 0) (he_r (Nat.le_of_ble_eq_true rfl) (Nat.le_of_ble_eq_true rfl) tW_o) 4 (by decide) q148 rfl rfl rfl rfl (Nat.le_of_ble_eq_true rfl) (hw_r (Nat.le_of_ble_eq_true rfl) (Nat.le_of_ble_eq_true rfl) tW_i4) dX0_ask_83 (fun H locs hI => ?_)
              refine lv_aload_n hxR hbR dX0_ask_86 rfl (lv_at hl 1 rfl) ?_
              refine r_get hxR hbR hts hown hK hI okX0 (ci := 0) rfl 8 (he_l xW_o) 0 (by decide) q263 rfl (v := .ref (adn 10)) rfl dX0_ask_87 ?_
              refine lv_iload_n hxR hbR dX0_ask_90 rfl (lv_at hl 2 rfl) ?_
              refine lv_iconst (v := 1) hxR hbR dX0_ask_91 (by decide) ?_
              refine lv_icmp_ne (tgt := 99) hxR hbR dX0_ask_92 (by decide) (fun c_92 => ?_) (fun c_92 => ?_)
              · skip
                have i_92 : ¬ (w.toInt = 1) := by have zz := mt i_eq.mpr c_92; exact zz
                refine lv_aload_n hxR hbR dX0_ask_99 rfl (lv_at hl 1 rfl) ?_
                refine r_get hxR hbR hts hown hK hI okX0 (ci := 0) rfl 8 (he_l xW_o) 0 (by decide) q263 rfl (v := .ref (adn 10)) rfl dX0_ask_100 ?_
                refine r_get hxR hbR hts hown hK hI okX1 (ci := 1) rfl (14 + 0) (he_r (Nat.le_of_ble_eq_true rfl) (Nat.le_of_ble_eq_true rfl) tW_o) 5 (by decide) q151 rfl (v := .int (ivn 5)) (al (up_n (by decide) rfl)) dX0_ask_103 ?_
                refine r_put (v := .int (ivn 5)) (ws1 := xW E ad iv ch rd tp rf hd (adn 10) tr gr dy im ++ (tW E adn (va_up (va_up ivn 4 (ivn 4)) 5 (ivn 5)) hrn csn Sn)) hxR hbR hts hown hK hI okX1 (ci := 1) rfl (14 + 0) (he_r (Nat.le_of_ble_eq_true rfl) (Nat.le_of_ble_eq_true rfl) tW_o) 5 (by decide) q151 rfl rfl rfl rfl (Nat.le_of_ble_eq_true rfl) (hw_r (Nat.le_of_ble_eq_true rfl) (Nat.le_of_ble_eq_true rfl) tW_i5) dX0_ask_106 (fun H locs hI => ?_)
                refine lv_iload_n hxR hbR dX0_ask_109 rfl (lv_at hl 0 rfl) ?_
                have hC : askC w v = 0 := by
                  clear hret hI
                  unfold askC
                  repeat' split
                  all_goals first | rfl | (exfalso; omega) | contradiction | (exfalso; simp_all; done) | simp_all
                have erf : bumpR rf (askC w v) = rf := by rw [hC]; exact bump_0 _
                have eivn4 : gd (askC w v) (if w = 0 then v else ivn 4) (ivn 4) = ivn 4 := by rw [hC]; first | rfl | (simp only [gd_0]; split <;> first | rfl | contradiction) | (exfalso; omega)
                have eivn5 : gd (askC w v) (if w = 0 then ivn 5 else v) (ivn 5) = ivn 5 := by rw [hC]; first | rfl | (simp only [gd_0]; split <;> first | rfl | contradiction) | (exfalso; omega)
                have hI := wI_w (ws' := xW E ad iv ch rd tp (bumpR rf (askC w v)) hd (adn 10) tr gr dy im ++ (tW E adn (va_up (va_up ivn 4 (gd (askC w v) (if w = 0 then v else ivn 4) (ivn 4))) 5 (gd (askC w v) (if w = 0 then ivn 5 else v) (ivn 5))) hrn csn Sn)) (by rw [erf, eivn4, eivn5]; try rfl) hI
                exact hret () (ivn 4) _ _ 0 0 _ _ dX0_ask_110 hI (by show (ivn 4) = gd (askC w v) (if w = 0 then ivn 4 else ivn 5) (askC w v); rw [hC]; first | rfl | (simp only [gd_0]; split <;> first | rfl | contradiction)) (Nat.le_of_ble_eq_true rfl) (Nat.le_of_ble_eq_true rfl) rfl
              · skip
                have i_92 : w.toInt = 1 := by have zz := i_eq.mp c_92; exact zz
                refine lv_iload_n hxR hbR dX0_ask_95 rfl (lv_at hl 3 rfl) ?_
                refine lv_goto (tgt := 106) hxR hbR dX0_ask_96 (by decide) ?_
                refine r_put (v := .int v) (ws1 := xW E ad iv ch rd tp rf hd (adn 10) tr gr dy im ++ (tW E adn (va_up (va_up ivn 4 (ivn 4)) 5 v) hrn csn Sn)) hxR hbR hts hown hK hI okX1 (ci := 1) rfl (14 + 0) (he_r (Nat.le_of_ble_eq_true rfl) (Nat.le_of_ble_eq_true rfl) tW_o) 5 (by decide) q151 rfl rfl rfl rfl (Nat.le_of_ble_eq_true rfl) (hw_r (Nat.le_of_ble_eq_true rfl) (Nat.le_of_ble_eq_true rfl) tW_i5) dX0_ask_106 (fun H locs hI => ?_)
                refine lv_iload_n hxR hbR dX0_ask_109 rfl (lv_at hl 0 rfl) ?_
                have hC : askC w v = 0 := by
                  clear hret hI
                  unfold askC
                  repeat' split
                  all_goals first | rfl | (exfalso; omega) | contradiction | (exfalso; simp_all; done) | simp_all
                have erf : bumpR rf (askC w v) = rf := by rw [hC]; exact bump_0 _
                have eivn4 : gd (askC w v) (if w = 0 then v else ivn 4) (ivn 4) = ivn 4 := by rw [hC]; first | rfl | (simp only [gd_0]; split <;> first | rfl | contradiction) | (exfalso; omega)
                have eivn5 : gd (askC w v) (if w = 0 then ivn 5 else v) (ivn 5) = v := by rw [hC]; first | rfl | (simp only [gd_0]; split <;> first | rfl | contradiction) | (exfalso; omega)
                have hI := wI_w (ws' := xW E ad iv ch rd tp (bumpR rf (askC w v)) hd (adn 10) tr gr dy im ++ (tW E adn (va_up (va_up ivn 4 (gd (askC w v) (if w = 0 then v else ivn 4) (ivn 4))) 5 (gd (askC w v) (if w = 0 then ivn 5 else v) (ivn 5))) hrn csn Sn)) (by rw [erf, eivn4, eivn5]; try rfl) hI
                exact hret () (ivn 4) _ _ 0 0 _ _ dX0_ask_110 hI (by show (ivn 4) = gd (askC w v) (if w = 0 then ivn 4 else ivn 5) (askC w v); rw [hC]; first | rfl | (simp only [gd_0]; split <;> first | rfl | contradiction)) (Nat.le_of_ble_eq_true rfl) (Nat.le_of_ble_eq_true rfl) rfl
            · skip
              have i_69 : w.toInt = 0 := by have zz := i_eq.mp c_69; exact zz
              refine lv_iload_n hxR hbR dX0_ask_72 rfl (lv_at hl 3 rfl) ?_
              refine lv_goto (tgt := 83) hxR hbR dX0_ask_73 (by decide) ?_
              refine r_put (v := .int v) (ws1 := xW E ad iv ch rd tp rf hd (adn 10) tr gr dy im ++ (tW E adn (va_up ivn 4 v) hrn csn Sn)) hxR hbR hts hown hK hI okX1 (ci := 1) rfl (14 + 0) (he_r (Nat.le_of_ble_eq_true rfl) (Nat.le_of_ble_eq_true rfl) tW_o) 4 (by decide) q148 rfl rfl rfl rfl (Nat.le_of_ble_eq_true rfl) (hw_r (Nat.le_of_ble_eq_true rfl) (Nat.le_of_ble_eq_true rfl) tW_i4) dX0_ask_83 (fun H locs hI => ?_)
              refine lv_aload_n hxR hbR dX0_ask_86 rfl (lv_at hl 1 rfl) ?_
              refine r_get hxR hbR hts hown hK hI okX0 (ci := 0) rfl 8 (he_l xW_o) 0 (by decide) q263 rfl (v := .ref (adn 10)) rfl dX0_ask_87 ?_
              refine lv_iload_n hxR hbR dX0_ask_90 rfl (lv_at hl 2 rfl) ?_
              refine lv_iconst (v := 1) hxR hbR dX0_ask_91 (by decide) ?_
              refine lv_icmp_ne (tgt := 99) hxR hbR dX0_ask_92 (by decide) (fun c_92 => ?_) (fun c_92 => ?_)
              · skip
                have i_92 : ¬ (w.toInt = 1) := by have zz := mt i_eq.mpr c_92; exact zz
                refine lv_aload_n hxR hbR dX0_ask_99 rfl (lv_at hl 1 rfl) ?_
                refine r_get hxR hbR hts hown hK hI okX0 (ci := 0) rfl 8 (he_l xW_o) 0 (by decide) q263 rfl (v := .ref (adn 10)) rfl dX0_ask_100 ?_
                refine r_get hxR hbR hts hown hK hI okX1 (ci := 1) rfl (14 + 0) (he_r (Nat.le_of_ble_eq_true rfl) (Nat.le_of_ble_eq_true rfl) tW_o) 5 (by decide) q151 rfl (v := .int (ivn 5)) (al (up_n (by decide) rfl)) dX0_ask_103 ?_
                refine r_put (v := .int (ivn 5)) (ws1 := xW E ad iv ch rd tp rf hd (adn 10) tr gr dy im ++ (tW E adn (va_up (va_up ivn 4 v) 5 (ivn 5)) hrn csn Sn)) hxR hbR hts hown hK hI okX1 (ci := 1) rfl (14 + 0) (he_r (Nat.le_of_ble_eq_true rfl) (Nat.le_of_ble_eq_true rfl) tW_o) 5 (by decide) q151 rfl rfl rfl rfl (Nat.le_of_ble_eq_true rfl) (hw_r (Nat.le_of_ble_eq_true rfl) (Nat.le_of_ble_eq_true rfl) tW_i5) dX0_ask_106 (fun H locs hI => ?_)
                refine lv_iload_n hxR hbR dX0_ask_109 rfl (lv_at hl 0 rfl) ?_
                have hC : askC w v = 0 := by
                  clear hret hI
                  unfold askC
                  repeat' split
                  all_goals first | rfl | (exfalso; omega) | contradiction | (exfalso; simp_all; done) | simp_all
                have erf : bumpR rf (askC w v) = rf := by rw [hC]; exact bump_0 _
                have eivn4 : gd (askC w v) (if w = 0 then v else ivn 4) (ivn 4) = v := by rw [hC]; first | rfl | (simp only [gd_0]; split <;> first | rfl | contradiction) | (exfalso; omega)
                have eivn5 : gd (askC w v) (if w = 0 then ivn 5 else v) (ivn 5) = ivn 5 := by rw [hC]; first | rfl | (simp only [gd_0]; split <;> first | rfl | contradiction) | (exfalso; omega)
                have hI := wI_w (ws' := xW E ad iv ch rd tp (bumpR rf (askC w v)) hd (adn 10) tr gr dy im ++ (tW E adn (va_up (va_up ivn 4 (gd (askC w v) (if w = 0 then v else ivn 4) (ivn 4))) 5 (gd (askC w v) (if w = 0 then ivn 5 else v) (ivn 5))) hrn csn Sn)) (by rw [erf, eivn4, eivn5]; try rfl) hI
                exact hret () (ivn 4) _ _ 0 0 _ _ dX0_ask_110 hI (by show (ivn 4) = gd (askC w v) (if w = 0 then ivn 4 else ivn 5) (askC w v); rw [hC]; first | rfl | (simp only [gd_0]; split <;> first | rfl | contradiction)) (Nat.le_of_ble_eq_true rfl) (Nat.le_of_ble_eq_true rfl) rfl
              · skip
                have i_92 : w.toInt = 1 := by have zz := i_eq.mp c_92; exact zz
                refine lv_iload_n hxR hbR dX0_ask_95 rfl (lv_at hl 3 rfl) ?_
                refine lv_goto (tgt := 106) hxR hbR dX0_ask_96 (by decide) ?_
                refine r_put (v := .int v) (ws1 := xW E ad iv ch rd tp rf hd (adn 10) tr gr dy im ++ (tW E adn (va_up (va_up ivn 4 v) 5 v) hrn csn Sn)) hxR hbR hts hown hK hI okX1 (ci := 1) rfl (14 + 0) (he_r (Nat.le_of_ble_eq_true rfl) (Nat.le_of_ble_eq_true rfl) tW_o) 5 (by decide) q151 rfl rfl rfl rfl (Nat.le_of_ble_eq_true rfl) (hw_r (Nat.le_of_ble_eq_true rfl) (Nat.le_of_ble_eq_true rfl) tW_i5) dX0_ask_106 (fun H locs hI => ?_)
                refine lv_iload_n hxR hbR dX0_ask_109 rfl (lv_at hl 0 rfl) ?_
                have hC : askC w v = 0 := by
                  clear hret hI
                  unfold askC
                  repeat' split
                  all_goals first | rfl | (exfalso; omega) | contradiction | (exfalso; simp_all; done) | simp_all
                have erf : bumpR rf (askC w v) = rf := by rw [hC]; exact bump_0 _
                have eivn4 : gd (askC w v) (if w = 0 then v else ivn 4) (ivn 4) = v := by rw [hC]; first | rfl | (simp only [gd_0]; split <;> first | rfl | contradiction) | (exfalso; omega)
                have eivn5 : gd (askC w v) (if w = 0 then ivn 5 else v) (ivn 5) = v := by rw [hC]; first | rfl | (simp only [gd_0]; split <;> first | rfl | contradiction) | (exfalso; omega)
                have hI := wI_w (ws' := xW E ad iv ch rd tp (bumpR rf (askC w v)) hd (adn 10) tr gr dy im ++ (tW E adn (va_up (va_up ivn 4 (gd (askC w v) (if w = 0 then v else ivn 4) (ivn 4))) 5 (gd (askC w v) (if w = 0 then ivn 5 else v) (ivn 5))) hrn csn Sn)) (by rw [erf, eivn4, eivn5]; try rfl) hI
                exact hret () (ivn 4) _ _ 0 0 _ _ dX0_ask_110 hI (by show (ivn 4) = gd (askC w v) (if w = 0 then ivn 4 else ivn 5) (askC w v); rw [hC]; first | rfl | (simp only [gd_0]; split <;> first | rfl | contradiction)) (Nat.le_of_ble_eq_true rfl) (Nat.le_of_ble_eq_true rfl) rfl
        · skip
          have c_29 : ¬ (Int32.toInt 2 ≤ Int32.toInt v ∧ Int32.toInt v ≤ Int32.toInt 4) := of_decide_eq_false c_29
          have c_29 : ¬ (2 ≤ v.toInt ∧ v.toInt ≤ 4) := by exact c_29
          refine lv_if_ne (tgt := 42) hxR hbR dX0_ask_32 (by decide) (fun c => absurd c (by decide)) (fun _ => ?_)
          refine lv_aload_n hxR hbR dX0_ask_35 rfl (lv_at hl 0 rfl) ?_
          refine lv_bipush (v := (-2)) hxR hbR dX0_ask_36 (by decide) ?_
          refine kVI (n := 1) (As := [.int (-2)]) (rest := []) (fun w => w ++ (tW E adn ivn hrn csn Sn)) hxR hbR hmlR hts hown hK hA hl.1 (isCtx.suf _) hI (c0_no l E ad iv ch rd tp rf hd (adn 10) tr gr dy im (-2) 2 (by decide) (by decide)) (lw_V q396 q398 qs2 q81 q399) ⟨rfl, by decide +kernel⟩ 8 0 rfl rfl xW_o rfl (Nat.le_of_ble_eq_true rfl) (Nat.le_of_ble_eq_true rfl) ⟨Nat.le_of_ble_eq_true rfl, Nat.le_of_ble_eq_true rfl⟩ (Nat.le_of_ble_eq_true rfl) dX0_ask_38 (fun r_38 u H locs hp hI hz => ?_)
          have hI : wI E AR sR H locs (xW E ad iv ch rd tp (va_up rf 2 (rf 2 + 1)) hd (adn 10) tr gr dy im ++ (tW E adn ivn hrn csn Sn)) := hI
          have hp : r_38 = (-2) := hp
          have hr_38 := hp
          subst hr_38
          have hC : askC w v = (-2) := by
            clear hret hI
            unfold askC
            repeat' split
            all_goals first | rfl | (exfalso; omega) | contradiction | (exfalso; simp_all; done) | simp_all
          have erf : bumpR rf (askC w v) = va_up rf 2 (rf 2 + 1) := by rw [hC]; exact bump_2 _
          have eivn4 : gd (askC w v) (if w = 0 then v else ivn 4) (ivn 4) = ivn 4 := by rw [hC]; first | rfl | (simp only [gd_0]; split <;> first | rfl | contradiction) | (exfalso; omega)
          have eivn5 : gd (askC w v) (if w = 0 then ivn 5 else v) (ivn 5) = ivn 5 := by rw [hC]; first | rfl | (simp only [gd_0]; split <;> first | rfl | contradiction) | (exfalso; omega)
          have hI := wI_w (ws' := xW E ad iv ch rd tp (bumpR rf (askC w v)) hd (adn 10) tr gr dy im ++ (tW E adn (va_up (va_up ivn 4 (gd (askC w v) (if w = 0 then v else ivn 4) (ivn 4))) 5 (gd (askC w v) (if w = 0 then ivn 5 else v) (ivn 5))) hrn csn Sn)) (by rw [erf, eivn4, eivn5, va_up_id (f := ivn) (k := 4) (v := ivn 4) rfl, va_up_id (f := ivn) (k := 5) (v := ivn 5) rfl]; try rfl) hI
          exact hret () (-2) _ _ 0 0 _ _ dX0_ask_41 hI (by show (-2) = gd (askC w v) (if w = 0 then ivn 4 else ivn 5) (askC w v); rw [hC]; first | rfl | (simp only [gd_0]; split <;> first | rfl | contradiction)) (Nat.le_of_ble_eq_true rfl) (Nat.le_of_ble_eq_true rfl) rfl
  · skip
    have c_3 : ¬ (Int32.toInt 0 ≤ Int32.toInt w ∧ Int32.toInt w ≤ Int32.toInt 1) := of_decide_eq_false c_3
    have c_3 : ¬ (0 ≤ w.toInt ∧ w.toInt ≤ 1) := by exact c_3
    refine lv_if_eq (tgt := 35) hxR hbR dX0_ask_6 (by decide) (fun _ => ?_) (fun c => absurd c (by decide))
    refine lv_aload_n hxR hbR dX0_ask_35 rfl (lv_at hl 0 rfl) ?_
    refine lv_bipush (v := (-2)) hxR hbR dX0_ask_36 (by decide) ?_
    refine kVI (n := 1) (As := [.int (-2)]) (rest := []) (fun w => w ++ (tW E adn ivn hrn csn Sn)) hxR hbR hmlR hts hown hK hA hl.1 (isCtx.suf _) hI (c0_no l E ad iv ch rd tp rf hd (adn 10) tr gr dy im (-2) 2 (by decide) (by decide)) (lw_V q396 q398 qs2 q81 q399) ⟨rfl, by decide +kernel⟩ 8 0 rfl rfl xW_o rfl (Nat.le_of_ble_eq_true rfl) (Nat.le_of_ble_eq_true rfl) ⟨Nat.le_of_ble_eq_true rfl, Nat.le_of_ble_eq_true rfl⟩ (Nat.le_of_ble_eq_true rfl) dX0_ask_38 (fun r_38 u H locs hp hI hz => ?_)
    have hI : wI E AR sR H locs (xW E ad iv ch rd tp (va_up rf 2 (rf 2 + 1)) hd (adn 10) tr gr dy im ++ (tW E adn ivn hrn csn Sn)) := hI
    have hp : r_38 = (-2) := hp
    have hr_38 := hp
    subst hr_38
    have hC : askC w v = (-2) := by
      clear hret hI
      unfold askC
      repeat' split
      all_goals first | rfl | (exfalso; omega) | contradiction | (exfalso; simp_all; done) | simp_all
    have erf : bumpR rf (askC w v) = va_up rf 2 (rf 2 + 1) := by rw [hC]; exact bump_2 _
    have eivn4 : gd (askC w v) (if w = 0 then v else ivn 4) (ivn 4) = ivn 4 := by rw [hC]; first | rfl | (simp only [gd_0]; split <;> first | rfl | contradiction) | (exfalso; omega)
    have eivn5 : gd (askC w v) (if w = 0 then ivn 5 else v) (ivn 5) = ivn 5 := by rw [hC]; first | rfl | (simp only [gd_0]; split <;> first | rfl | contradiction) | (exfalso; omega)
    have hI := wI_w (ws' := xW E ad iv ch rd tp (bumpR rf (askC w v)) hd (adn 10) tr gr dy im ++ (tW E adn (va_up (va_up ivn 4 (gd (askC w v) (if w = 0 then v else ivn 4) (ivn 4))) 5 (gd (askC w v) (if w = 0 then ivn 5 else v) (ivn 5))) hrn csn Sn)) (by rw [erf, eivn4, eivn5, va_up_id (f := ivn) (k := 4) (v := ivn 4) rfl, va_up_id (f := ivn) (k := 5) (v := ivn 5) rfl]; try rfl) hI
    exact hret () (-2) _ _ 0 0 _ _ dX0_ask_41 hI (by show (-2) = gd (askC w v) (if w = 0 then ivn 4 else ivn 5) (askC w v); rw [hC]; first | rfl | (simp only [gd_0]; split <;> first | rfl | contradiction)) (Nat.le_of_ble_eq_true rfl) (Nat.le_of_ble_eq_true rfl) rfl

theorem c0_feed (l : Launch) (E : En) (ad : Nat → Nat) (iv : Nat → Int32) (ch : Nat → Int32) (rd : Nat → Int32) (tp : Nat → Int32) (rf : Nat → Int32) (hd : Nat → Option Nat) (nw : Nat) (tr : Nat) (gr : Nat) (dy : Nat) (im : Option Nat) (sz : Nat) (x : Int32) (hsz : iv 9 = nI sz) (hz : sz ≤ 250) : CtI l E yX0_feed cX0_feed 2 .int 2 0 0 [.ref (ad 11), .int x] (xW E ad iv ch rd tp rf hd nw tr gr dy im) (fun (r : Int32) (u : Unit) => r = gd (feedC sz x) (nI (sz + 1)) (feedC sz x)) (fun (u : Unit) => xW E ad (va_up iv 9 (gd (feedC sz x) (nI (sz + 1)) (iv 9))) ch rd (gd (feedC sz x) (va_up tp sz x) tp) (bumpR rf (feedC sz x)) hd nw tr gr dy im) := by
  refine CtI.of (by decide +kernel) (Nat.le_of_ble_eq_true rfl) ?_
  intro pR eR sR mR aR bR tR cR AR ls QR hxR hbR hmlR hts hown hlk hnm hA hK hI hl hret
  have hl : lv_has ls 2 [(0, .ref (ad 11)), (1, .int x)] := hl
  refine lv_iload_n hxR hbR dX0_feed_0 rfl (lv_at hl 1 rfl) ?_
  refine lv_iconst (v := 0) hxR hbR dX0_feed_1 (by decide) ?_
  refine lv_sipush (v := 255) hxR hbR dX0_feed_2 (by decide) ?_
  refine kSI (n := 3) (As := [.int x, .int 0, .int 255]) (rest := []) (fun w => w ++ (xW E ad iv ch rd tp rf hd nw tr gr dy im)) hxR hbR hmlR hts hown hK hA hl.1 (isCtx.suf _) hI (c0_isIn l E  x 0 255 ) (lw_S q393 q394 q81 q395) (by decide +kernel) rfl (Nat.le_of_ble_eq_true rfl) (Nat.le_of_ble_eq_true rfl) ⟨Nat.le_of_ble_eq_true rfl, Nat.le_of_ble_eq_true rfl⟩ (Nat.le_of_ble_eq_true rfl) dX0_feed_5 (fun r_5 u H locs hp hI hz => ?_)
  have hI : wI E AR sR H locs (xW E ad iv ch rd tp rf hd nw tr gr dy im) := hI
  have hp : r_5 = b2i (decide (Int32.toInt 0 ≤ Int32.toInt x ∧ Int32.toInt x ≤ Int32.toInt 255)) := hp
  have hr_5 := hp
  rcases b2i_cases hr_5 with ⟨c_5, rfl⟩ | ⟨c_5, rfl⟩
  · skip
    have c_5 : Int32.toInt 0 ≤ Int32.toInt x ∧ Int32.toInt x ≤ Int32.toInt 255 := of_decide_eq_true c_5
    have c_5 : 0 ≤ x.toInt ∧ x.toInt ≤ 255 := by exact c_5
    refine lv_if_ne (tgt := 18) hxR hbR dX0_feed_8 (by decide) (fun _ => ?_) (fun c => absurd c (by decide))
    refine lv_aload_n hxR hbR dX0_feed_18 rfl (lv_at hl 0 rfl) ?_
    refine r_get hxR hbR hts hown hK hI okX0 (ci := 0) rfl 8 xW_o 9 (by decide) q273 rfl (v := .int (nI sz)) (al hsz) dX0_feed_19 ?_
    refine lv_sipush (v := 250) hxR hbR dX0_feed_22 (by decide) ?_
    refine lv_icmp_ne (tgt := 35) hxR hbR dX0_feed_25 (by decide) (fun c_25 => ?_) (fun c_25 => ?_)
    · skip
      have c_25 : ¬ sz = 250 := fun zz => c_25 ((n_eq (a := sz) (b := 250) (by omega) (by omega)).mpr zz)
      refine lv_aload_n hxR hbR dX0_feed_35 rfl (lv_at hl 0 rfl) ?_
      refine r_get hxR hbR hts hown hK hI okX0 (ci := 0) rfl 8 xW_o 8 (by decide) q272 rfl (v := .ref (ad 8)) rfl dX0_feed_36 ?_
      refine lv_aload_n hxR hbR dX0_feed_39 rfl (lv_at hl 0 rfl) ?_
      refine r_get hxR hbR hts hown hK hI okX0 (ci := 0) rfl 8 xW_o 9 (by decide) q273 rfl (v := .int (nI sz)) (al hsz) dX0_feed_40 ?_
      refine lv_iload_n hxR hbR dX0_feed_43 rfl (lv_at hl 1 rfl) ?_
      refine r_iast (ws1 := xW E ad iv ch rd (va_up tp sz x) rf hd nw tr gr dy im) hxR hbR hK hI 12 (n := 250) (J := sz) (f := tp) (xW_g8 rfl) (by omega) (by decide) xW_a8 dX0_feed_44 (fun H locs hI => ?_)
      refine lv_aload_n hxR hbR dX0_feed_45 rfl (lv_at hl 0 rfl) ?_
      refine lv_dup hxR hbR dX0_feed_46 rfl ?_
      refine r_get hxR hbR hts hown hK hI okX0 (ci := 0) rfl 8 xW_o 9 (by decide) q273 rfl (v := .int (nI sz)) (al hsz) dX0_feed_47 ?_
      refine lv_iconst (v := 1) hxR hbR dX0_feed_50 (by decide) ?_
      refine lv_iadd hxR hbR dX0_feed_51 ?_
      refine lv_as (y := nI (sz + 1)) (nI_add sz 1) ?_
      refine r_put (v := .int (nI (sz + 1))) (ws1 := xW E ad (va_up iv 9 (nI (sz + 1))) ch rd (va_up tp sz x) rf hd nw tr gr dy im) hxR hbR hts hown hK hI okX0 (ci := 0) rfl 8 xW_o 9 (by decide) q273 rfl rfl rfl rfl (Nat.le_of_ble_eq_true rfl) xW_i9 dX0_feed_52 (fun H locs hI => ?_)
      refine lv_aload_n hxR hbR dX0_feed_55 rfl (lv_at hl 0 rfl) ?_
      refine r_get hxR hbR hts hown hK hI okX0 (ci := 0) rfl 8 xW_o 9 (by decide) q273 rfl (v := .int (nI (sz + 1))) (al va_up_s) dX0_feed_56 ?_
      have hC : feedC sz x = 0 := by
        clear hret hI
        unfold feedC
        repeat' split
        all_goals first | rfl | (exfalso; omega) | contradiction | (exfalso; simp_all; done) | simp_all
      have eiv9 : gd (feedC sz x) (nI (sz + 1)) (iv 9) = nI (sz + 1) := by rw [hC]; first | rfl | (simp only [gd_0]; split <;> first | rfl | contradiction) | (exfalso; omega)
      have etp : gd (feedC sz x) (va_up tp sz x) tp = va_up tp sz x := by rw [hC]; first | rfl | (simp only [gd_0]; split <;> first | rfl | contradiction) | (exfalso; omega)
      have erf : bumpR rf (feedC sz x) = rf := by rw [hC]; exact bump_0 _
      have hI := wI_w (ws' := xW E ad (va_up iv 9 (gd (feedC sz x) (nI (sz + 1)) (iv 9))) ch rd (gd (feedC sz x) (va_up tp sz x) tp) (bumpR rf (feedC sz x)) hd nw tr gr dy im) (by rw [eiv9, etp, erf]; try rfl) hI
      exact hret () (nI (sz + 1)) _ _ 0 0 _ _ dX0_feed_59 hI (by show (nI (sz + 1)) = gd (feedC sz x) (nI (sz + 1)) (feedC sz x); rw [hC]; first | rfl | (simp only [gd_0]; split <;> first | rfl | contradiction)) (Nat.le_of_ble_eq_true rfl) (Nat.le_of_ble_eq_true rfl) rfl
    · skip
      have c_25 : sz = 250 := (n_eq (a := sz) (b := 250) (by omega) (by omega)).mp c_25
      refine lv_aload_n hxR hbR dX0_feed_28 rfl (lv_at hl 0 rfl) ?_
      refine lv_bipush (v := (-6)) hxR hbR dX0_feed_29 (by decide) ?_
      refine kVI (n := 1) (As := [.int (-6)]) (rest := []) (fun w => w) hxR hbR hmlR hts hown hK hA hl.1 isCtx.id hI (c0_no l E ad iv ch rd tp rf hd nw tr gr dy im (-6) 6 (by decide) (by decide)) (lw_V q396 q398 qs2 q81 q399) ⟨rfl, by decide +kernel⟩ 8 0 rfl rfl xW_o rfl (Nat.le_of_ble_eq_true rfl) (Nat.le_of_ble_eq_true rfl) ⟨Nat.le_of_ble_eq_true rfl, Nat.le_of_ble_eq_true rfl⟩ (Nat.le_of_ble_eq_true rfl) dX0_feed_31 (fun r_31 u H locs hp hI hz => ?_)
      have hI : wI E AR sR H locs (xW E ad iv ch rd tp (va_up rf 6 (rf 6 + 1)) hd nw tr gr dy im) := hI
      have hp : r_31 = (-6) := hp
      have hr_31 := hp
      subst hr_31
      have hC : feedC sz x = (-6) := by
        clear hret hI
        unfold feedC
        repeat' split
        all_goals first | rfl | (exfalso; omega) | contradiction | (exfalso; simp_all; done) | simp_all
      have eiv9 : gd (feedC sz x) (nI (sz + 1)) (iv 9) = iv 9 := by rw [hC]; first | rfl | (simp only [gd_0]; split <;> first | rfl | contradiction) | (exfalso; omega)
      have etp : gd (feedC sz x) (va_up tp sz x) tp = tp := by rw [hC]; first | rfl | (simp only [gd_0]; split <;> first | rfl | contradiction) | (exfalso; omega)
      have erf : bumpR rf (feedC sz x) = va_up rf 6 (rf 6 + 1) := by rw [hC]; exact bump_6 _
      have hI := wI_w (ws' := xW E ad (va_up iv 9 (gd (feedC sz x) (nI (sz + 1)) (iv 9))) ch rd (gd (feedC sz x) (va_up tp sz x) tp) (bumpR rf (feedC sz x)) hd nw tr gr dy im) (by rw [eiv9, etp, erf, va_up_id (f := iv) (k := 9) (v := iv 9) rfl]; try rfl) hI
      exact hret () (-6) _ _ 0 0 _ _ dX0_feed_34 hI (by show (-6) = gd (feedC sz x) (nI (sz + 1)) (feedC sz x); rw [hC]; first | rfl | (simp only [gd_0]; split <;> first | rfl | contradiction)) (Nat.le_of_ble_eq_true rfl) (Nat.le_of_ble_eq_true rfl) rfl
  · skip
    have c_5 : ¬ (Int32.toInt 0 ≤ Int32.toInt x ∧ Int32.toInt x ≤ Int32.toInt 255) := of_decide_eq_false c_5
    have c_5 : ¬ (0 ≤ x.toInt ∧ x.toInt ≤ 255) := by exact c_5
    refine lv_if_ne (tgt := 18) hxR hbR dX0_feed_8 (by decide) (fun c => absurd c (by decide)) (fun _ => ?_)
    refine lv_aload_n hxR hbR dX0_feed_11 rfl (lv_at hl 0 rfl) ?_
    refine lv_bipush (v := (-2)) hxR hbR dX0_feed_12 (by decide) ?_
    refine kVI (n := 1) (As := [.int (-2)]) (rest := []) (fun w => w) hxR hbR hmlR hts hown hK hA hl.1 isCtx.id hI (c0_no l E ad iv ch rd tp rf hd nw tr gr dy im (-2) 2 (by decide) (by decide)) (lw_V q396 q398 qs2 q81 q399) ⟨rfl, by decide +kernel⟩ 8 0 rfl rfl xW_o rfl (Nat.le_of_ble_eq_true rfl) (Nat.le_of_ble_eq_true rfl) ⟨Nat.le_of_ble_eq_true rfl, Nat.le_of_ble_eq_true rfl⟩ (Nat.le_of_ble_eq_true rfl) dX0_feed_14 (fun r_14 u H locs hp hI hz => ?_)
    have hI : wI E AR sR H locs (xW E ad iv ch rd tp (va_up rf 2 (rf 2 + 1)) hd nw tr gr dy im) := hI
    have hp : r_14 = (-2) := hp
    have hr_14 := hp
    subst hr_14
    have hC : feedC sz x = (-2) := by
      clear hret hI
      unfold feedC
      repeat' split
      all_goals first | rfl | (exfalso; omega) | contradiction | (exfalso; simp_all; done) | simp_all
    have eiv9 : gd (feedC sz x) (nI (sz + 1)) (iv 9) = iv 9 := by rw [hC]; first | rfl | (simp only [gd_0]; split <;> first | rfl | contradiction) | (exfalso; omega)
    have etp : gd (feedC sz x) (va_up tp sz x) tp = tp := by rw [hC]; first | rfl | (simp only [gd_0]; split <;> first | rfl | contradiction) | (exfalso; omega)
    have erf : bumpR rf (feedC sz x) = va_up rf 2 (rf 2 + 1) := by rw [hC]; exact bump_2 _
    have hI := wI_w (ws' := xW E ad (va_up iv 9 (gd (feedC sz x) (nI (sz + 1)) (iv 9))) ch rd (gd (feedC sz x) (va_up tp sz x) tp) (bumpR rf (feedC sz x)) hd nw tr gr dy im) (by rw [eiv9, etp, erf, va_up_id (f := iv) (k := 9) (v := iv 9) rfl]; try rfl) hI
    exact hret () (-2) _ _ 0 0 _ _ dX0_feed_17 hI (by show (-2) = gd (feedC sz x) (nI (sz + 1)) (feedC sz x); rw [hC]; first | rfl | (simp only [gd_0]; split <;> first | rfl | contradiction)) (Nat.le_of_ble_eq_true rfl) (Nat.le_of_ble_eq_true rfl) rfl

theorem c0_wipe (l : Launch) (E : En) (ad : Nat → Nat) (iv : Nat → Int32) (ch : Nat → Int32) (rd : Nat → Int32) (tp : Nat → Int32) (rf : Nat → Int32) (hd : Nat → Option Nat) (nw : Nat) (tr : Nat) (gr : Nat) (dy : Nat) (im : Option Nat)   : CtI l E yX0_wipe cX0_wipe 2 .int 0 0 0 [.ref (ad 11)] (xW E ad iv ch rd tp rf hd nw tr gr dy im) (fun (r : Int32) (u : Unit) => r = iv 9) (fun (u : Unit) => xW E ad (va_up iv 9 (nI 0)) ch rd tp rf hd nw tr gr dy im) := by
  refine CtI.of (by decide +kernel) (Nat.le_of_ble_eq_true rfl) ?_
  intro pR eR sR mR aR bR tR cR AR ls QR hxR hbR hmlR hts hown hlk hnm hA hK hI hl hret
  have hl : lv_has ls 2 [(0, .ref (ad 11))] := hl
  refine lv_aload_n hxR hbR dX0_wipe_0 rfl (lv_at hl 0 rfl) ?_
  refine r_get hxR hbR hts hown hK hI okX0 (ci := 0) rfl 8 xW_o 9 (by decide) q273 rfl (v := .int (iv 9)) (al rfl) dX0_wipe_1 ?_
  refine lv_istore_n (lv' := [(1, .int (iv 9)), (0, .ref (ad 11))]) hxR hbR dX0_wipe_4 rfl hl (by decide) rfl (fun ls hl => ?_)
  refine lv_aload_n hxR hbR dX0_wipe_5 rfl (lv_at hl 1 rfl) ?_
  refine lv_iconst (v := 0) hxR hbR dX0_wipe_6 (by decide) ?_
  refine r_put (v := .int 0) (ws1 := xW E ad (va_up iv 9 0) ch rd tp rf hd nw tr gr dy im) hxR hbR hts hown hK hI okX0 (ci := 0) rfl 8 xW_o 9 (by decide) q273 rfl rfl rfl rfl (Nat.le_of_ble_eq_true rfl) xW_i9 dX0_wipe_7 (fun H locs hI => ?_)
  refine lv_iload_n hxR hbR dX0_wipe_10 rfl (lv_at hl 0 rfl) ?_
  exact hret () (iv 9) _ _ _ _ _ _ dX0_wipe_11 hI (by show (iv 9) = iv 9; rfl) (Nat.le_of_ble_eq_true rfl) (Nat.le_of_ble_eq_true rfl) rfl

theorem c0_seed (l : Launch) (E : En) (ad : Nat → Nat) (iv : Nat → Int32) (ch : Nat → Int32) (rd : Nat → Int32) (tp : Nat → Int32) (rf : Nat → Int32) (hd : Nat → Option Nat) (tr : Nat) (gr : Nat) (dy : Nat) (im : Option Nat) (adn : Nat → Nat) (ivn : Nat → Int32) (hrn : Nat → Int32) (csn : Nat → Int32) (Sn : Nat → Int32) (x : Int32)  : CtI l E yX0_seed cX0_seed 3 .int 0 0 0 [.ref (ad 11), .int x] (xW E ad iv ch rd tp rf hd (adn 10) tr gr dy im ++ (tW E adn ivn hrn csn Sn)) (fun (r : Int32) (u : Unit) => r = ivn 9) (fun (u : Unit) => xW E ad iv ch rd tp rf hd (adn 10) tr gr dy im ++ (tW E adn (va_up ivn 9 x) hrn csn Sn)) := by
  refine CtI.of (by decide +kernel) (Nat.le_of_ble_eq_true rfl) ?_
  intro pR eR sR mR aR bR tR cR AR ls QR hxR hbR hmlR hts hown hlk hnm hA hK hI hl hret
  have hl : lv_has ls 3 [(0, .ref (ad 11)), (1, .int x)] := hl
  refine lv_aload_n hxR hbR dX0_seed_0 rfl (lv_at hl 0 rfl) ?_
  refine r_get hxR hbR hts hown hK hI okX0 (ci := 0) rfl 8 (he_l xW_o) 0 (by decide) q263 rfl (v := .ref (adn 10)) rfl dX0_seed_1 ?_
  refine r_get hxR hbR hts hown hK hI okX1 (ci := 1) rfl (14 + 0) (he_r (Nat.le_of_ble_eq_true rfl) (Nat.le_of_ble_eq_true rfl) tW_o) 9 (by decide) q159 rfl (v := .int (ivn 9)) (al rfl) dX0_seed_4 ?_
  refine lv_istore_n (lv' := [(2, .int (ivn 9)), (0, .ref (ad 11)), (1, .int x)]) hxR hbR dX0_seed_7 rfl hl (by decide) rfl (fun ls hl => ?_)
  refine lv_aload_n hxR hbR dX0_seed_8 rfl (lv_at hl 1 rfl) ?_
  refine r_get hxR hbR hts hown hK hI okX0 (ci := 0) rfl 8 (he_l xW_o) 0 (by decide) q263 rfl (v := .ref (adn 10)) rfl dX0_seed_9 ?_
  refine lv_iload_n hxR hbR dX0_seed_12 rfl (lv_at hl 2 rfl) ?_
  refine r_put (v := .int x) (ws1 := xW E ad iv ch rd tp rf hd (adn 10) tr gr dy im ++ (tW E adn (va_up ivn 9 x) hrn csn Sn)) hxR hbR hts hown hK hI okX1 (ci := 1) rfl (14 + 0) (he_r (Nat.le_of_ble_eq_true rfl) (Nat.le_of_ble_eq_true rfl) tW_o) 9 (by decide) q159 rfl rfl rfl rfl (Nat.le_of_ble_eq_true rfl) (hw_r (Nat.le_of_ble_eq_true rfl) (Nat.le_of_ble_eq_true rfl) tW_i9) dX0_seed_13 (fun H locs hI => ?_)
  refine lv_iload_n hxR hbR dX0_seed_16 rfl (lv_at hl 0 rfl) ?_
  exact hret () (ivn 9) _ _ _ _ _ _ dX0_seed_17 hI (by show (ivn 9) = ivn 9; rfl) (Nat.le_of_ble_eq_true rfl) (Nat.le_of_ble_eq_true rfl) rfl

theorem c0_personOf (l : Launch) (E : En) (ad : Nat → Nat) (iv : Nat → Int32) (ch : Nat → Int32) (rd : Nat → Int32) (tp : Nat → Int32) (rf : Nat → Int32) (hd : Nat → Option Nat) (tr : Nat) (gr : Nat) (dy : Nat) (im : Option Nat) (adn : Nat → Nat) (ivn : Nat → Int32) (hrn : Nat → Int32) (csn : Nat → Int32) (K : Nat → Nat → Int32) (n : Nat) (x w : Int32) (hn : ivn 3 = nI n) (hn7 : n ≤ 7) : CtI l E yX0_personOf cX0_personOf 3 .int 3 0 0 [.ref (ad 11), .int x, .int w] (xW E ad iv ch rd tp rf hd (adn 10) tr gr dy im ++ (tW E adn ivn hrn csn (sK K))) (fun (r : Int32) (u : Unit) => r = gd (perOfC n x w) (perOfV hrn csn K n x w) (perOfC n x w)) (fun (u : Unit) => xW E ad iv ch rd tp (bumpR rf (perOfC n x w)) hd (adn 10) tr gr dy im ++ (tW E adn ivn hrn csn (sK K))) := by
  refine CtI.of (by decide +kernel) (Nat.le_of_ble_eq_true rfl) ?_
  intro pR eR sR mR aR bR tR cR AR ls QR hxR hbR hmlR hts hown hlk hnm hA hK hI hl hret
  have hl : lv_has ls 3 [(0, .ref (ad 11)), (1, .int x), (2, .int w)] := hl
  refine lv_aload_n hxR hbR dX0_personOf_0 rfl (lv_at hl 0 rfl) ?_
  refine r_get hxR hbR hts hown hK hI okX0 (ci := 0) rfl 8 (he_l xW_o) 0 (by decide) q263 rfl (v := .ref (adn 10)) rfl dX0_personOf_1 ?_
  refine lv_iload_n hxR hbR dX0_personOf_4 rfl (lv_at hl 1 rfl) ?_
  refine kVI (n := 1) (As := [.int x]) (rest := []) (fun w => (xW E ad iv ch rd tp rf hd (adn 10) tr gr dy im) ++ w) hxR hbR hmlR hts hown hK hA hl.1 (isCtx.pre _) hI (c1_isOne l E adn ivn hrn csn K n x hn (by omega)) (lw_V q755 q756 q757 q82 q758) ⟨rfl, by decide +kernel⟩ 0 1 rfl rfl tW_o rfl (Nat.le_of_ble_eq_true rfl) (Nat.le_of_ble_eq_true rfl) ⟨Nat.le_of_ble_eq_true rfl, Nat.le_of_ble_eq_true rfl⟩ (Nat.le_of_ble_eq_true rfl) dX0_personOf_5 (fun r_5 u H locs hp hI hz => ?_)
  have hI : wI E AR sR H locs (xW E ad iv ch rd tp rf hd (adn 10) tr gr dy im ++ (tW E adn ivn hrn csn (sK K))) := hI
  have hp : r_5 = b2i (decide (0 ≤ x.toInt ∧ x.toInt < (n : Int))) := hp
  have hr_5 := hp
  rcases b2i_cases hr_5 with ⟨c_5, rfl⟩ | ⟨c_5, rfl⟩
  · skip
    have c_5 : 0 ≤ Int32.toInt x ∧ Int32.toInt x < (n : Int) := of_decide_eq_true c_5
    obtain ⟨P, hP, rfl⟩ := nat_of c_5 (by omega)
    have tP : (nI P).toInt = (P : Int) := nI_toInt (by omega)
    refine lv_if_ne (tgt := 18) hxR hbR dX0_personOf_8 (by decide) (fun _ => ?_) (fun c => absurd c (by decide))
    refine lv_iload_n hxR hbR dX0_personOf_18 rfl (lv_at hl 2 rfl) ?_
    by_cases c_19_0 : w = 0
    · skip
      refine lv_tableIn (off := 29) (tgt := 48) hxR hbR dX0_personOf_19 (by rw [c_19_0]; decide) (by rw [c_19_0]; decide) (by rw [c_19_0]; rfl) (by decide) ?_
      refine lv_aload_n hxR hbR dX0_personOf_48 rfl (lv_at hl 0 rfl) ?_
      refine r_get hxR hbR hts hown hK hI okX0 (ci := 0) rfl 8 (he_l xW_o) 0 (by decide) q263 rfl (v := .ref (adn 10)) rfl dX0_personOf_49 ?_
      refine r_get hxR hbR hts hown hK hI okX1 (ci := 1) rfl (14 + 0) (he_r (Nat.le_of_ble_eq_true rfl) (Nat.le_of_ble_eq_true rfl) tW_o) 0 (by decide) q133 rfl (v := .ref (adn 0)) rfl dX0_personOf_52 ?_
      refine lv_iload_n hxR hbR dX0_personOf_55 rfl (lv_at hl 1 rfl) ?_
      refine r_iald hxR hbR hK hI (14 + 1) (n := 7) (J := P) (f := hrn) (v := hrn P) (he_r (Nat.le_of_ble_eq_true rfl) (Nat.le_of_ble_eq_true rfl) (tW_g0 rfl)) (by omega) (by decide) rfl dX0_personOf_56 ?_
      have hC : perOfC n (nI P) w = 0 := by
        clear hret hI
        unfold perOfC; exact if_pos ⟨c_5, by rw [c_19_0]; decide⟩
      have erf : bumpR rf (perOfC n (nI P) w) = rf := by rw [hC]; exact bump_0 _
      have hI := wI_w (ws' := xW E ad iv ch rd tp (bumpR rf (perOfC n (nI P) w)) hd (adn 10) tr gr dy im ++ (tW E adn ivn hrn csn (sK K))) (by rw [erf]; try rfl) hI
      exact hret () (hrn P) _ _ 0 0 _ _ dX0_personOf_57 hI (by show (hrn P) = gd (perOfC n (nI P) w) (perOfV hrn csn K n (nI P) w) (perOfC n (nI P) w); rw [hC]; unfold perOfV; simp only [nI_clamp (n := P) (by omega)]; rw [c_19_0]; rfl) (Nat.le_of_ble_eq_true rfl) (Nat.le_of_ble_eq_true rfl) rfl
    by_cases c_19_1 : w = 1
    · skip
      refine lv_tableIn (off := 39) (tgt := 58) hxR hbR dX0_personOf_19 (by rw [c_19_1]; decide) (by rw [c_19_1]; decide) (by rw [c_19_1]; rfl) (by decide) ?_
      refine lv_aload_n hxR hbR dX0_personOf_58 rfl (lv_at hl 0 rfl) ?_
      refine r_get hxR hbR hts hown hK hI okX0 (ci := 0) rfl 8 (he_l xW_o) 0 (by decide) q263 rfl (v := .ref (adn 10)) rfl dX0_personOf_59 ?_
      refine r_get hxR hbR hts hown hK hI okX1 (ci := 1) rfl (14 + 0) (he_r (Nat.le_of_ble_eq_true rfl) (Nat.le_of_ble_eq_true rfl) tW_o) 1 (by decide) q137 rfl (v := .ref (adn 1)) rfl dX0_personOf_62 ?_
      refine lv_iload_n hxR hbR dX0_personOf_65 rfl (lv_at hl 1 rfl) ?_
      refine r_iald hxR hbR hK hI (14 + 2) (n := 7) (J := P) (f := csn) (v := csn P) (he_r (Nat.le_of_ble_eq_true rfl) (Nat.le_of_ble_eq_true rfl) (tW_g1 rfl)) (by omega) (by decide) rfl dX0_personOf_66 ?_
      have hC : perOfC n (nI P) w = 0 := by
        clear hret hI
        unfold perOfC; exact if_pos ⟨c_5, by rw [c_19_1]; decide⟩
      have erf : bumpR rf (perOfC n (nI P) w) = rf := by rw [hC]; exact bump_0 _
      have hI := wI_w (ws' := xW E ad iv ch rd tp (bumpR rf (perOfC n (nI P) w)) hd (adn 10) tr gr dy im ++ (tW E adn ivn hrn csn (sK K))) (by rw [erf]; try rfl) hI
      exact hret () (csn P) _ _ 0 0 _ _ dX0_personOf_67 hI (by show (csn P) = gd (perOfC n (nI P) w) (perOfV hrn csn K n (nI P) w) (perOfC n (nI P) w); rw [hC]; unfold perOfV; simp only [nI_clamp (n := P) (by omega)]; rw [c_19_1]; rfl) (Nat.le_of_ble_eq_true rfl) (Nat.le_of_ble_eq_true rfl) rfl
    by_cases c_19_2 : w = 2
    · skip
      refine lv_tableIn (off := 49) (tgt := 68) hxR hbR dX0_personOf_19 (by rw [c_19_2]; decide) (by rw [c_19_2]; decide) (by rw [c_19_2]; rfl) (by decide) ?_
      refine lv_aload_n hxR hbR dX0_personOf_68 rfl (lv_at hl 0 rfl) ?_
      refine r_get hxR hbR hts hown hK hI okX0 (ci := 0) rfl 8 (he_l xW_o) 0 (by decide) q263 rfl (v := .ref (adn 10)) rfl dX0_personOf_69 ?_
      refine lv_iload_n hxR hbR dX0_personOf_72 rfl (lv_at hl 1 rfl) ?_
      refine kVI (n := 1) (As := [.int (nI P)]) (rest := []) (fun w => (xW E ad iv ch rd tp rf hd (adn 10) tr gr dy im) ++ w) hxR hbR hmlR hts hown hK hA hl.1 (isCtx.pre _) hI (c1_strangers l E adn ivn hrn csn K n P hn (by first | omega | with_reducible assumption) (by first | omega | with_reducible assumption)) (lw_V q1158 q635 q636 q82 q637) ⟨rfl, by decide +kernel⟩ 0 1 rfl rfl tW_o rfl (Nat.le_of_ble_eq_true rfl) (Nat.le_of_ble_eq_true rfl) ⟨Nat.le_of_ble_eq_true rfl, Nat.le_of_ble_eq_true rfl⟩ (Nat.le_of_ble_eq_true rfl) dX0_personOf_73 (fun r_73 u H locs hp hI hz => ?_)
      have hI : wI E AR sR H locs (xW E ad iv ch rd tp rf hd (adn 10) tr gr dy im ++ (tW E adn ivn hrn csn (sK K))) := hI
      have hp : r_73 = nI (strS K P n) := hp
      have hr_73 := hp
      subst hr_73
      have hC : perOfC n (nI P) w = 0 := by
        clear hret hI
        unfold perOfC; exact if_pos ⟨c_5, by rw [c_19_2]; decide⟩
      have erf : bumpR rf (perOfC n (nI P) w) = rf := by rw [hC]; exact bump_0 _
      have hI := wI_w (ws' := xW E ad iv ch rd tp (bumpR rf (perOfC n (nI P) w)) hd (adn 10) tr gr dy im ++ (tW E adn ivn hrn csn (sK K))) (by rw [erf]; try rfl) hI
      exact hret () (nI (strS K P n)) _ _ 0 0 _ _ dX0_personOf_76 hI (by show (nI (strS K P n)) = gd (perOfC n (nI P) w) (perOfV hrn csn K n (nI P) w) (perOfC n (nI P) w); rw [hC]; unfold perOfV; simp only [nI_clamp (n := P) (by omega)]; rw [c_19_2]; rfl) (Nat.le_of_ble_eq_true rfl) (Nat.le_of_ble_eq_true rfl) rfl
    by_cases c_19_3 : w = 3
    · skip
      refine lv_tableIn (off := 58) (tgt := 77) hxR hbR dX0_personOf_19 (by rw [c_19_3]; decide) (by rw [c_19_3]; decide) (by rw [c_19_3]; rfl) (by decide) ?_
      refine lv_aload_n hxR hbR dX0_personOf_77 rfl (lv_at hl 0 rfl) ?_
      refine r_get hxR hbR hts hown hK hI okX0 (ci := 0) rfl 8 (he_l xW_o) 0 (by decide) q263 rfl (v := .ref (adn 10)) rfl dX0_personOf_78 ?_
      refine lv_iload_n hxR hbR dX0_personOf_81 rfl (lv_at hl 1 rfl) ?_
      refine kVI (n := 1) (As := [.int (nI P)]) (rest := []) (fun w => (xW E ad iv ch rd tp rf hd (adn 10) tr gr dy im) ++ w) hxR hbR hmlR hts hown hK hA hl.1 (isCtx.pre _) hI (c1_strangers l E adn ivn hrn csn K n P hn (by first | omega | with_reducible assumption) (by first | omega | with_reducible assumption)) (lw_V q1158 q635 q636 q82 q637) ⟨rfl, by decide +kernel⟩ 0 1 rfl rfl tW_o rfl (Nat.le_of_ble_eq_true rfl) (Nat.le_of_ble_eq_true rfl) ⟨Nat.le_of_ble_eq_true rfl, Nat.le_of_ble_eq_true rfl⟩ (Nat.le_of_ble_eq_true rfl) dX0_personOf_82 (fun r_82 u H locs hp hI hz => ?_)
      have hI : wI E AR sR H locs (xW E ad iv ch rd tp rf hd (adn 10) tr gr dy im ++ (tW E adn ivn hrn csn (sK K))) := hI
      have hp : r_82 = nI (strS K P n) := hp
      have hr_82 := hp
      subst hr_82
      refine kSI (n := 1) (As := [.int (nI (strS K P n))]) (rest := []) (fun w => w ++ (xW E ad iv ch rd tp rf hd (adn 10) tr gr dy im ++ (tW E adn ivn hrn csn (sK K)))) hxR hbR hmlR hts hown hK hA hl.1 (isCtx.suf _) hI (c10_bitCount l E  (strS K P n) (Nat.lt_trans (strS_lt K P n) (show 2 ^ n < 2 ^ 8 from Nat.pow_lt_pow_right (by decide) (by omega)))) (lw_S q1159 q651 q105 q652) (by decide +kernel) rfl (Nat.le_of_ble_eq_true rfl) (Nat.le_of_ble_eq_true rfl) ⟨Nat.le_of_ble_eq_true rfl, Nat.le_of_ble_eq_true rfl⟩ (Nat.le_of_ble_eq_true rfl) dX0_personOf_85 (fun r_85 u H locs hp hI hz => ?_)
      have hI : wI E AR sR H locs (xW E ad iv ch rd tp rf hd (adn 10) tr gr dy im ++ (tW E adn ivn hrn csn (sK K))) := hI
      have hp : r_85 = nI (bitsN (strS K P n) 8) := hp
      have hr_85 := hp
      subst hr_85
      have hC : perOfC n (nI P) w = 0 := by
        clear hret hI
        unfold perOfC; exact if_pos ⟨c_5, by rw [c_19_3]; decide⟩
      have erf : bumpR rf (perOfC n (nI P) w) = rf := by rw [hC]; exact bump_0 _
      have hI := wI_w (ws' := xW E ad iv ch rd tp (bumpR rf (perOfC n (nI P) w)) hd (adn 10) tr gr dy im ++ (tW E adn ivn hrn csn (sK K))) (by rw [erf]; try rfl) hI
      exact hret () (nI (bitsN (strS K P n) 8)) _ _ 0 0 _ _ dX0_personOf_88 hI (by show (nI (bitsN (strS K P n) 8)) = gd (perOfC n (nI P) w) (perOfV hrn csn K n (nI P) w) (perOfC n (nI P) w); rw [hC]; unfold perOfV; simp only [nI_clamp (n := P) (by omega)]; rw [c_19_3]; rfl) (Nat.le_of_ble_eq_true rfl) (Nat.le_of_ble_eq_true rfl) rfl
    have c_19_d : w.toInt < 0 ∨ 3 < w.toInt := by
      have z0 : ¬ w.toInt = 0 := fun q => c_19_0 (Int32.toInt_inj.mp q)
      have z1 : ¬ w.toInt = 1 := fun q => c_19_1 (Int32.toInt_inj.mp q)
      have z2 : ¬ w.toInt = 2 := fun q => c_19_2 (Int32.toInt_inj.mp q)
      have z3 : ¬ w.toInt = 3 := fun q => c_19_3 (Int32.toInt_inj.mp q)
      omega
    refine lv_tableOut (tgt := 89) hxR hbR dX0_personOf_19 c_19_d (by decide) ?_
    refine lv_aload_n hxR hbR dX0_personOf_89 rfl (lv_at hl 0 rfl) ?_
    refine lv_bipush (v := (-2)) hxR hbR dX0_personOf_90 (by decide) ?_
    refine kVI (n := 1) (As := [.int (-2)]) (rest := []) (fun w => w ++ (tW E adn ivn hrn csn (sK K))) hxR hbR hmlR hts hown hK hA hl.1 (isCtx.suf _) hI (c0_no l E ad iv ch rd tp rf hd (adn 10) tr gr dy im (-2) 2 (by decide) (by decide)) (lw_V q396 q398 qs2 q81 q399) ⟨rfl, by decide +kernel⟩ 8 0 rfl rfl xW_o rfl (Nat.le_of_ble_eq_true rfl) (Nat.le_of_ble_eq_true rfl) ⟨Nat.le_of_ble_eq_true rfl, Nat.le_of_ble_eq_true rfl⟩ (Nat.le_of_ble_eq_true rfl) dX0_personOf_92 (fun r_92 u H locs hp hI hz => ?_)
    have hI : wI E AR sR H locs (xW E ad iv ch rd tp (va_up rf 2 (rf 2 + 1)) hd (adn 10) tr gr dy im ++ (tW E adn ivn hrn csn (sK K))) := hI
    have hp : r_92 = (-2) := hp
    have hr_92 := hp
    subst hr_92
    have hC : perOfC n (nI P) w = (-2) := by
      clear hret hI
      unfold perOfC
      try simp only [nI_clamp (n := P) (by omega)]
      repeat' split
      all_goals first | rfl | (exfalso; omega) | contradiction | (exfalso; simp_all; done) | simp_all
    have erf : bumpR rf (perOfC n (nI P) w) = va_up rf 2 (rf 2 + 1) := by rw [hC]; exact bump_2 _
    have hI := wI_w (ws' := xW E ad iv ch rd tp (bumpR rf (perOfC n (nI P) w)) hd (adn 10) tr gr dy im ++ (tW E adn ivn hrn csn (sK K))) (by rw [erf]; try rfl) hI
    exact hret () (-2) _ _ 0 0 _ _ dX0_personOf_95 hI (by show (-2) = gd (perOfC n (nI P) w) (perOfV hrn csn K n (nI P) w) (perOfC n (nI P) w); rw [hC]; first | rfl | (simp only [nI_clamp (n := P) (by omega)]; rfl) | (simp only [gd_0, nI_clamp (n := P) (by omega)]; split <;> first | rfl | contradiction)) (Nat.le_of_ble_eq_true rfl) (Nat.le_of_ble_eq_true rfl) rfl
  · skip
    have c_5 : ¬ (0 ≤ Int32.toInt x ∧ Int32.toInt x < (n : Int)) := of_decide_eq_false c_5
    refine lv_if_ne (tgt := 18) hxR hbR dX0_personOf_8 (by decide) (fun c => absurd c (by decide)) (fun _ => ?_)
    refine lv_aload_n hxR hbR dX0_personOf_11 rfl (lv_at hl 0 rfl) ?_
    refine lv_bipush (v := (-2)) hxR hbR dX0_personOf_12 (by decide) ?_
    refine kVI (n := 1) (As := [.int (-2)]) (rest := []) (fun w => w ++ (tW E adn ivn hrn csn (sK K))) hxR hbR hmlR hts hown hK hA hl.1 (isCtx.suf _) hI (c0_no l E ad iv ch rd tp rf hd (adn 10) tr gr dy im (-2) 2 (by decide) (by decide)) (lw_V q396 q398 qs2 q81 q399) ⟨rfl, by decide +kernel⟩ 8 0 rfl rfl xW_o rfl (Nat.le_of_ble_eq_true rfl) (Nat.le_of_ble_eq_true rfl) ⟨Nat.le_of_ble_eq_true rfl, Nat.le_of_ble_eq_true rfl⟩ (Nat.le_of_ble_eq_true rfl) dX0_personOf_14 (fun r_14 u H locs hp hI hz => ?_)
    have hI : wI E AR sR H locs (xW E ad iv ch rd tp (va_up rf 2 (rf 2 + 1)) hd (adn 10) tr gr dy im ++ (tW E adn ivn hrn csn (sK K))) := hI
    have hp : r_14 = (-2) := hp
    have hr_14 := hp
    subst hr_14
    have hC : perOfC n x w = (-2) := by
      clear hret hI
      unfold perOfC
      repeat' split
      all_goals first | rfl | (exfalso; omega) | contradiction | (exfalso; simp_all; done) | simp_all
    have erf : bumpR rf (perOfC n x w) = va_up rf 2 (rf 2 + 1) := by rw [hC]; exact bump_2 _
    have hI := wI_w (ws' := xW E ad iv ch rd tp (bumpR rf (perOfC n x w)) hd (adn 10) tr gr dy im ++ (tW E adn ivn hrn csn (sK K))) (by rw [erf]; try rfl) hI
    exact hret () (-2) _ _ 0 0 _ _ dX0_personOf_17 hI (by show (-2) = gd (perOfC n x w) (perOfV hrn csn K n x w) (perOfC n x w); rw [hC]; first | rfl | (simp only [gd_0]; split <;> first | rfl | contradiction)) (Nat.le_of_ble_eq_true rfl) (Nat.le_of_ble_eq_true rfl) rfl
