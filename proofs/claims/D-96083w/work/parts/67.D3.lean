theorem c0_year (l : Launch) (E : En) (ad : Nat → Nat) (iv : Nat → Int32) (ch : Nat → Int32) (rd : Nat → Int32) (tp : Nat → Int32) (rf : Nat → Int32) (hd : Nat → Option Nat) (tr : Nat) (gr : Nat) (dy : Nat) (im : Option Nat) (adn : Nat → Nat) (ivn : Nat → Int32) (hrn : Nat → Int32) (csn : Nat → Int32) (K : Nat → Nat → Int32) (n : Nat)  (hn : ivn 3 = nI n) (hn7 : n ≤ 7) (hm0 : 0 ≤ (ivn 5).toInt) (hK9 : (∀ p q, p < n → q < p → K p q = -1 ∨ (0 ≤ (K p q).toInt ∧ (K p q).toInt ≤ 99))) : CtI l E yX0_year cX0_year 1 .int 4 0 0 [.ref (ad 11)] (xW E ad iv ch rd tp rf hd (adn 10) tr gr dy im ++ (tW E adn ivn hrn csn (sK K))) (fun (r : Int32) (u : Unit) => r = nI (yC K (ivn 5) n)) (fun (u : Unit) => xW E ad iv ch rd tp rf hd (adn 10) tr gr dy im ++ (tW E adn (va_up ivn 8 (ivn 8 + 1)) hrn csn (sK (yearK K (ivn 5) n)))) := by
  refine CtI.of (by decide +kernel) (Nat.le_of_ble_eq_true rfl) ?_
  intro pR eR sR mR aR bR tR cR AR ls QR hxR hbR hmlR hts hown hlk hnm hA hK hI hl hret
  have hl : lv_has ls 1 [(0, .ref (ad 11))] := hl
  refine lv_aload_n hxR hbR dX0_year_0 rfl (lv_at hl 0 rfl) ?_
  refine r_get hxR hbR hts hown hK hI okX0 (ci := 0) rfl 8 (he_l xW_o) 0 (by decide) q263 rfl (v := .ref (adn 10)) rfl dX0_year_1 ?_
  refine kVI (n := 0) (As := []) (rest := []) (fun w => (xW E ad iv ch rd tp rf hd (adn 10) tr gr dy im) ++ w) hxR hbR hmlR hts hown hK hA hl.1 (isCtx.pre _) hI (c1_year l E adn ivn hrn csn K n hn (by first | omega | with_reducible assumption) (by first | omega | with_reducible assumption) (by first | omega | with_reducible assumption)) (lw_V q1428 q1429 q1430 q82 q1431) ⟨rfl, by decide +kernel⟩ 0 1 rfl rfl tW_o rfl (Nat.le_of_ble_eq_true rfl) (Nat.le_of_ble_eq_true rfl) ⟨Nat.le_of_ble_eq_true rfl, Nat.le_of_ble_eq_true rfl⟩ (Nat.le_of_ble_eq_true rfl) dX0_year_4 (fun r_4 u H locs hp hI hz => ?_)
  have hI : wI E AR sR H locs (xW E ad iv ch rd tp rf hd (adn 10) tr gr dy im ++ (tW E adn (va_up ivn 8 ((ivn 8) + 1)) hrn csn (sK (yearK K ((ivn 5)) n)))) := hI
  have hp : r_4 = nI (yC K ((ivn 5)) n) := hp
  have hr_4 := hp
  subst hr_4
  exact hret () (nI (yC K ((ivn 5)) n)) _ _ _ _ _ _ dX0_year_7 hI (by show (nI (yC K ((ivn 5)) n)) = nI (yC K (ivn 5) n); rfl) (Nat.le_of_ble_eq_true rfl) (Nat.le_of_ble_eq_true rfl) rfl

theorem knF_id {K : Nat → Nat → Int32} {p q : Nat} {v : Int32} (h : K p q = v ∧ K q p = v) : knF K p q v = K := by
  funext a b
  unfold knF
  split
  · rename_i e
    rcases e with e | e
    · rw [e.1, e.2, h.1]
    · rw [e.1, e.2, h.2]
  · rfl
theorem newK_m {K : Nat → Nat → Int32} {n j : Nat} (hj : j < n) : newK K n n n j = -1 ∧ newK K n n j n = -1 := by
  unfold newK
  rw [if_pos (by omega), if_pos (by omega)]
  exact ⟨rfl, rfl⟩
theorem knF_ne {K : Nat → Nat → Int32} {n q j : Nat} {v : Int32} (hj : ¬ j = q) (h : K n j = -1 ∧ K j n = -1) (hq : ¬ j = n) : knF K n q v n j = -1 ∧ knF K n q v j n = -1 := by
  unfold knF
  rw [if_neg (by omega), if_neg (by omega)]
  exact h

theorem c0_come (l : Launch) (E : En) (ad : Nat → Nat) (iv : Nat → Int32) (ch : Nat → Int32) (rd : Nat → Int32) (tp : Nat → Int32) (rf : Nat → Int32) (hd : Nat → Option Nat) (tr : Nat) (gr : Nat) (dy : Nat) (im : Option Nat) (adn : Nat → Nat) (ivn : Nat → Int32) (hrn : Nat → Int32) (csn : Nat → Int32) (K : Nat → Nat → Int32) (n : Nat) (x : Int32) (hn : ivn 3 = nI n) (hn7 : n ≤ 7) : CtI l E yX0_come cX0_come 6 .int 4 0 0 [.ref (ad 11), .int x] (xW E ad iv ch rd tp rf hd (adn 10) tr gr dy im ++ (tW E adn ivn hrn csn (sK K))) (fun (r : Int32) (u : Unit) => r = gd (comeC x) (nI (cmN n x)) (comeC x)) (fun (u : Unit) => xW E ad iv ch rd tp (bumpR rf (comeC x)) hd (adn 10) tr gr dy im ++ (tW E adn (va_up (va_up ivn 3 (gd (comeC x) (nI (n + cmN n x)) (ivn 3))) 9 (gd (comeC x) ((cmS n (ivn 9) hrn csn K (cmN n x)).1) (ivn 9))) (gd (comeC x) ((cmS n (ivn 9) hrn csn K (cmN n x)).2.1) hrn) (gd (comeC x) ((cmS n (ivn 9) hrn csn K (cmN n x)).2.2.1) csn) (sK (gd (comeC x) ((cmS n (ivn 9) hrn csn K (cmN n x)).2.2.2) K)))) := by
  refine CtI.of (by decide +kernel) (Nat.le_of_ble_eq_true rfl) ?_
  intro pR eR sR mR aR bR tR cR AR ls QR hxR hbR hmlR hts hown hlk hnm hA hK hI hl hret
  have hl : lv_has ls 6 [(0, .ref (ad 11)), (1, .int x)] := hl
  refine lv_iload_n hxR hbR dX0_come_0 rfl (lv_at hl 1 rfl) ?_
  refine lv_iconst (v := 1) hxR hbR dX0_come_1 (by decide) ?_
  refine lv_bipush (v := 7) hxR hbR dX0_come_2 (by decide) ?_
  refine kSI (n := 3) (As := [.int x, .int 1, .int 7]) (rest := []) (fun w => w ++ (xW E ad iv ch rd tp rf hd (adn 10) tr gr dy im ++ (tW E adn ivn hrn csn (sK K)))) hxR hbR hmlR hts hown hK hA hl.1 (isCtx.suf _) hI (c0_isIn l E  x 1 7 ) (lw_S q393 q394 q81 q395) (by decide +kernel) rfl (Nat.le_of_ble_eq_true rfl) (Nat.le_of_ble_eq_true rfl) ⟨Nat.le_of_ble_eq_true rfl, Nat.le_of_ble_eq_true rfl⟩ (Nat.le_of_ble_eq_true rfl) dX0_come_4 (fun r_4 u H locs hp hI hz => ?_)
  have hI : wI E AR sR H locs (xW E ad iv ch rd tp rf hd (adn 10) tr gr dy im ++ (tW E adn ivn hrn csn (sK K))) := hI
  have hp : r_4 = b2i (decide (Int32.toInt 1 ≤ Int32.toInt x ∧ Int32.toInt x ≤ Int32.toInt 7)) := hp
  have hr_4 := hp
  rcases b2i_cases hr_4 with ⟨c_4, rfl⟩ | ⟨c_4, rfl⟩
  · skip
    have c_4 : Int32.toInt 1 ≤ Int32.toInt x ∧ Int32.toInt x ≤ Int32.toInt 7 := of_decide_eq_true c_4
    have c_4 : 1 ≤ x.toInt ∧ x.toInt ≤ 7 := by exact c_4
    obtain ⟨k0, hk0, rfl⟩ := nat_of_le (k := 7) ⟨by omega, c_4.2⟩ (by decide)
    have tk0 : (nI k0).toInt = (k0 : Int) := nI_toInt (by omega)
    refine lv_if_ne (tgt := 17) hxR hbR dX0_come_7 (by decide) (fun _ => ?_) (fun c => absurd c (by decide))
    refine lv_iconst (v := 0) hxR hbR dX0_come_17 (by decide) ?_
    refine lv_istore_n (lv' := [(2, .int 0), (0, .ref (ad 11)), (1, .int (nI k0))]) hxR hbR dX0_come_18 rfl hl (by decide) rfl (fun ls hl => ?_)
    have hI := wI_w (ws' := xW E ad iv ch rd tp rf hd (adn 10) tr gr dy im ++ (tW E adn (va_up ivn 3 (nI n)) hrn csn (sK K))) (by rw [va_up_id (f := ivn) (k := 3) (v := nI n) hn]) hI
    have hI := wI_w (ws' := xW E ad iv ch rd tp rf hd (adn 10) tr gr dy im ++ (tW E adn (va_up (va_up ivn 3 (nI n)) 9 (ivn 9)) hrn csn (sK K))) (by rw [va_up_id (f := (va_up ivn 3 (nI n))) (k := 9) (v := ivn 9) (up_n (by decide) rfl)]) hI
    have lp_19 : ∀ (fu : Nat) (m : Nat) (n2 : Nat) (sd : Int32) (h11 : Nat → Int32) (h12 : Nat → Int32) (Kx : Nat → Nat → Int32) (Sx : Nat → Int32), (m ≤ k0) → (n2 = n + m) → (n + m ≤ 7) → ((sd, h11, h12, Kx) = (cmS n (ivn 9) hrn csn K m)) → (Sx = sK Kx) → k0 - m < fu → ∀ (H : Heap) (locs : List Loc), wI E AR sR H locs (xW E ad iv ch rd tp rf hd (adn 10) tr gr dy im ++ (tW E adn (va_up (va_up ivn 3 (nI n2)) 9 sd) h11 h12 Sx)) → ∀ ls : Array Slot, lv_has ls 6 [(0, .ref (ad 11)), (1, .int (nI k0)), (2, .int (nI m))] → W pR l eR (rmF 4 0 0) sR mR aR bR tR cR H locs 0 0 QR (F0 mR 19 ls []) := by
      intro fu
      induction fu with
      | zero =>
        intro m n2 sd h11 h12 Kx Sx hm hn2 hnm hT hSx hfu
        exact absurd hfu (Nat.not_lt_zero _)
      | succ fu ih_19 =>
        intro m n2 sd h11 h12 Kx Sx hm hn2 hnm hT hSx hfu H locs hI ls hl
        subst hSx
        refine lv_iload_n hxR hbR dX0_come_19 rfl (lv_at hl 2 rfl) ?_
        refine lv_iload_n hxR hbR dX0_come_20 rfl (lv_at hl 1 rfl) ?_
        refine lv_icmp_ge (tgt := 114) hxR hbR dX0_come_21 (by decide) (fun c_21 => ?_) (fun c_21 => ?_)
        · skip
          have c_21 : k0 ≤ m := (n_le (a := k0) (b := m) (by omega) (by omega)).mp c_21
          refine lv_iload_n hxR hbR dX0_come_114 rfl (lv_at hl 2 rfl) ?_
          have hC : comeC (nI k0) = 0 := by
            clear hret hI
            unfold comeC
            try simp only [nI_clamp (n := k0) (by omega)]
            repeat' split
            all_goals first | rfl | (exfalso; omega) | contradiction | (exfalso; simp_all; done) | simp_all
          have hmN : cmN n (nI k0) = m := by unfold cmN; rw [nI_clamp (by omega)]; omega
          have erf : bumpR rf (comeC (nI k0)) = rf := by rw [hC]; exact bump_0 _
          have eivn3 : gd (comeC (nI k0)) (nI (n + cmN n (nI k0))) (ivn 3) = nI n2 := by rw [hC, hmN, hn2]; rfl
          have eivn9 : gd (comeC (nI k0)) ((cmS n (ivn 9) hrn csn K (cmN n (nI k0))).1) (ivn 9) = sd := by rw [hC, hmN, ← hT]; rfl
          have ehrn : gd (comeC (nI k0)) ((cmS n (ivn 9) hrn csn K (cmN n (nI k0))).2.1) hrn = h11 := by rw [hC, hmN, ← hT]; rfl
          have ecsn : gd (comeC (nI k0)) ((cmS n (ivn 9) hrn csn K (cmN n (nI k0))).2.2.1) csn = h12 := by rw [hC, hmN, ← hT]; rfl
          have eSn : sK (gd (comeC (nI k0)) ((cmS n (ivn 9) hrn csn K (cmN n (nI k0))).2.2.2) K) = sK Kx := by rw [hC, hmN, ← hT]; rfl
          have hI := wI_w (ws' := xW E ad iv ch rd tp (bumpR rf (comeC (nI k0))) hd (adn 10) tr gr dy im ++ (tW E adn (va_up (va_up ivn 3 (gd (comeC (nI k0)) (nI (n + cmN n (nI k0))) (ivn 3))) 9 (gd (comeC (nI k0)) ((cmS n (ivn 9) hrn csn K (cmN n (nI k0))).1) (ivn 9))) (gd (comeC (nI k0)) ((cmS n (ivn 9) hrn csn K (cmN n (nI k0))).2.1) hrn) (gd (comeC (nI k0)) ((cmS n (ivn 9) hrn csn K (cmN n (nI k0))).2.2.1) csn) (sK (gd (comeC (nI k0)) ((cmS n (ivn 9) hrn csn K (cmN n (nI k0))).2.2.2) K)))) (by rw [erf, eivn3, eivn9, ehrn, ecsn, eSn]; try rfl) hI
          exact hret () (nI m) _ _ 0 0 _ _ dX0_come_115 hI (by show (nI m) = gd (comeC (nI k0)) (nI (cmN n (nI k0))) (comeC (nI k0)); rw [hC, hmN]; rfl) (Nat.le_of_ble_eq_true rfl) (Nat.le_of_ble_eq_true rfl) rfl
        · skip
          have c_21 : m < k0 := Nat.lt_of_not_le (fun zz => c_21 ((n_le (a := k0) (b := m) (by omega) (by omega)).mpr zz))
          refine lv_aload_n hxR hbR dX0_come_24 rfl (lv_at hl 0 rfl) ?_
          refine r_get hxR hbR hts hown hK hI okX0 (ci := 0) rfl 8 (he_l xW_o) 0 (by decide) q263 rfl (v := .ref (adn 10)) rfl dX0_come_25 ?_
          refine r_get hxR hbR hts hown hK hI okX1 (ci := 1) rfl (14 + 0) (he_r (Nat.le_of_ble_eq_true rfl) (Nat.le_of_ble_eq_true rfl) tW_o) 3 (by decide) q144 rfl (v := .int (nI n2)) (al (up_n (by decide) va_up_s)) dX0_come_28 ?_
          refine lv_bipush (v := 7) hxR hbR dX0_come_31 (by decide) ?_
          refine lv_icmp_ge (tgt := 114) hxR hbR dX0_come_33 (by decide) (fun c_33 => ?_) (fun c_33 => ?_)
          · skip
            have c_33 : 7 ≤ n2 := (n_le (a := 7) (b := n2) (by omega) (by omega)).mp c_33
            refine lv_iload_n hxR hbR dX0_come_114 rfl (lv_at hl 2 rfl) ?_
            have hC : comeC (nI k0) = 0 := by
              clear hret hI
              unfold comeC
              try simp only [nI_clamp (n := k0) (by omega)]
              repeat' split
              all_goals first | rfl | (exfalso; omega) | contradiction | (exfalso; simp_all; done) | simp_all
            have hmN : cmN n (nI k0) = m := by unfold cmN; rw [nI_clamp (by omega)]; omega
            have erf : bumpR rf (comeC (nI k0)) = rf := by rw [hC]; exact bump_0 _
            have eivn3 : gd (comeC (nI k0)) (nI (n + cmN n (nI k0))) (ivn 3) = nI n2 := by rw [hC, hmN, hn2]; rfl
            have eivn9 : gd (comeC (nI k0)) ((cmS n (ivn 9) hrn csn K (cmN n (nI k0))).1) (ivn 9) = sd := by rw [hC, hmN, ← hT]; rfl
            have ehrn : gd (comeC (nI k0)) ((cmS n (ivn 9) hrn csn K (cmN n (nI k0))).2.1) hrn = h11 := by rw [hC, hmN, ← hT]; rfl
            have ecsn : gd (comeC (nI k0)) ((cmS n (ivn 9) hrn csn K (cmN n (nI k0))).2.2.1) csn = h12 := by rw [hC, hmN, ← hT]; rfl
            have eSn : sK (gd (comeC (nI k0)) ((cmS n (ivn 9) hrn csn K (cmN n (nI k0))).2.2.2) K) = sK Kx := by rw [hC, hmN, ← hT]; rfl
            have hI := wI_w (ws' := xW E ad iv ch rd tp (bumpR rf (comeC (nI k0))) hd (adn 10) tr gr dy im ++ (tW E adn (va_up (va_up ivn 3 (gd (comeC (nI k0)) (nI (n + cmN n (nI k0))) (ivn 3))) 9 (gd (comeC (nI k0)) ((cmS n (ivn 9) hrn csn K (cmN n (nI k0))).1) (ivn 9))) (gd (comeC (nI k0)) ((cmS n (ivn 9) hrn csn K (cmN n (nI k0))).2.1) hrn) (gd (comeC (nI k0)) ((cmS n (ivn 9) hrn csn K (cmN n (nI k0))).2.2.1) csn) (sK (gd (comeC (nI k0)) ((cmS n (ivn 9) hrn csn K (cmN n (nI k0))).2.2.2) K)))) (by rw [erf, eivn3, eivn9, ehrn, ecsn, eSn]; try rfl) hI
            exact hret () (nI m) _ _ 0 0 _ _ dX0_come_115 hI (by show (nI m) = gd (comeC (nI k0)) (nI (cmN n (nI k0))) (comeC (nI k0)); rw [hC, hmN]; rfl) (Nat.le_of_ble_eq_true rfl) (Nat.le_of_ble_eq_true rfl) rfl
          · skip
            have c_33 : n2 < 7 := Nat.lt_of_not_le (fun zz => c_33 ((n_le (a := 7) (b := n2) (by omega) (by omega)).mpr zz))
            refine lv_aload_n hxR hbR dX0_come_36 rfl (lv_at hl 0 rfl) ?_
            refine r_get hxR hbR hts hown hK hI okX0 (ci := 0) rfl 8 (he_l xW_o) 0 (by decide) q263 rfl (v := .ref (adn 10)) rfl dX0_come_37 ?_
            refine lv_bipush (v := 24) hxR hbR dX0_come_40 (by decide) ?_
            refine kVI (n := 1) (As := [.int 24]) (rest := []) (fun w => (xW E ad iv ch rd tp rf hd (adn 10) tr gr dy im) ++ w) hxR hbR hmlR hts hown hK hA hl.1 (isCtx.pre _) hI (c1_draw l E adn (va_up (va_up ivn 3 (nI n2)) 9 sd) h11 h12 Kx 24 (by decide)) (lw_V q1437 q1438 q1439 q82 q1440) ⟨rfl, by decide +kernel⟩ 0 1 rfl rfl tW_o rfl (Nat.le_of_ble_eq_true rfl) (Nat.le_of_ble_eq_true rfl) ⟨Nat.le_of_ble_eq_true rfl, Nat.le_of_ble_eq_true rfl⟩ (Nat.le_of_ble_eq_true rfl) dX0_come_42 (fun r_42 u H locs hp hI hz => ?_)
            have hI : wI E AR sR H locs (xW E ad iv ch rd tp rf hd (adn 10) tr gr dy im ++ (tW E adn (va_up (va_up (va_up ivn 3 (nI n2)) 9 sd) 9 (drS (sd))) h11 h12 (sK Kx))) := hI
            have hI := wI_w (ws' := xW E ad iv ch rd tp rf hd (adn 10) tr gr dy im ++ (tW E adn (va_up (va_up ivn 3 (nI n2)) 9 (drS (sd))) h11 h12 (sK Kx))) (by rw [(show (va_up (va_up ivn 3 (nI n2)) 9 (drS (sd))) = (va_up (va_up (va_up ivn 3 (nI n2)) 9 sd) 9 (drS (sd))) from (up_0).symm)]) hI
            have hI : wI E AR sR H locs (xW E ad iv ch rd tp rf hd (adn 10) tr gr dy im ++ (tW E adn (va_up (va_up ivn 3 (nI n2)) 9 (drS (sd))) h11 h12 (sK Kx))) := hI
            have hp : r_42 = drV (sd) 24 := hp
            have hr_42 := hp
            subst hr_42
            refine lv_istore_n (lv' := [(3, .int (drV (sd) 24)), (0, .ref (ad 11)), (1, .int (nI k0)), (2, .int (nI m))]) hxR hbR dX0_come_45 rfl hl (by decide) rfl (fun ls hl => ?_)
            refine lv_aload_n hxR hbR dX0_come_46 rfl (lv_at hl 1 rfl) ?_
            refine r_get hxR hbR hts hown hK hI okX0 (ci := 0) rfl 8 (he_l xW_o) 0 (by decide) q263 rfl (v := .ref (adn 10)) rfl dX0_come_47 ?_
            refine lv_iload_n hxR hbR dX0_come_50 rfl (lv_at hl 0 rfl) ?_
            refine lv_aload_n hxR hbR dX0_come_51 rfl (lv_at hl 1 rfl) ?_
            refine r_get hxR hbR hts hown hK hI okX0 (ci := 0) rfl 8 (he_l xW_o) 0 (by decide) q263 rfl (v := .ref (adn 10)) rfl dX0_come_52 ?_
            refine lv_bipush (v := 10) hxR hbR dX0_come_55 (by decide) ?_
            refine kVI (n := 1) (As := [.int 10]) (rest := [.int (drV (sd) 24), .ref (adn 10)]) (fun w => (xW E ad iv ch rd tp rf hd (adn 10) tr gr dy im) ++ w) hxR hbR hmlR hts hown hK hA hl.1 (isCtx.pre _) hI (c1_draw l E adn (va_up (va_up ivn 3 (nI n2)) 9 (drS (sd))) h11 h12 Kx 10 (by decide)) (lw_V q1437 q1438 q1439 q82 q1440) ⟨rfl, by decide +kernel⟩ 0 1 rfl rfl tW_o rfl (Nat.le_of_ble_eq_true rfl) (Nat.le_of_ble_eq_true rfl) ⟨Nat.le_of_ble_eq_true rfl, Nat.le_of_ble_eq_true rfl⟩ (Nat.le_of_ble_eq_true rfl) dX0_come_57 (fun r_57 u H locs hp hI hz => ?_)
            have hI : wI E AR sR H locs (xW E ad iv ch rd tp rf hd (adn 10) tr gr dy im ++ (tW E adn (va_up (va_up (va_up ivn 3 (nI n2)) 9 (drS (sd))) 9 (drS ((drS (sd))))) h11 h12 (sK Kx))) := hI
            have hI := wI_w (ws' := xW E ad iv ch rd tp rf hd (adn 10) tr gr dy im ++ (tW E adn (va_up (va_up ivn 3 (nI n2)) 9 (drS ((drS (sd))))) h11 h12 (sK Kx))) (by rw [(show (va_up (va_up ivn 3 (nI n2)) 9 (drS ((drS (sd))))) = (va_up (va_up (va_up ivn 3 (nI n2)) 9 (drS (sd))) 9 (drS ((drS (sd))))) from (up_0).symm)]) hI
            have hI : wI E AR sR H locs (xW E ad iv ch rd tp rf hd (adn 10) tr gr dy im ++ (tW E adn (va_up (va_up ivn 3 (nI n2)) 9 (drS ((drS (sd))))) h11 h12 (sK Kx))) := hI
            have hp : r_57 = drV ((drS (sd))) 10 := hp
            have hr_57 := hp
            subst hr_57
            refine kVI (n := 2) (As := [.int (drV (sd) 24), .int (drV ((drS (sd))) 10)]) (rest := []) (fun w => (xW E ad iv ch rd tp rf hd (adn 10) tr gr dy im) ++ w) hxR hbR hmlR hts hown hK hA hl.1 (isCtx.pre _) hI (c1_adds l E adn (va_up (va_up ivn 3 (nI n2)) 9 (drS ((drS (sd))))) h11 h12 Kx n2 (drV (sd) 24) (drV ((drS (sd))) 10) (up_n (by decide) va_up_s) (by omega)) (lw_V q743 q744 q745 q82 q746) ⟨rfl, by decide +kernel⟩ 0 1 rfl rfl tW_o rfl (Nat.le_of_ble_eq_true rfl) (Nat.le_of_ble_eq_true rfl) ⟨Nat.le_of_ble_eq_true rfl, Nat.le_of_ble_eq_true rfl⟩ (Nat.le_of_ble_eq_true rfl) dX0_come_60 (fun r_60 u H locs hp hI hz => ?_)
            have hI : wI E AR sR H locs (xW E ad iv ch rd tp rf hd (adn 10) tr gr dy im ++ (tW E adn (va_up (va_up (va_up ivn 3 (nI n2)) 9 (drS ((drS (sd))))) 3 (nI (n2 + 1))) (va_up h11 n2 (drV (sd) 24)) (va_up h12 n2 (drV ((drS (sd))) 10)) (sK (newK Kx n2 n2)))) := hI
            have hI := wI_w (ws' := xW E ad iv ch rd tp rf hd (adn 10) tr gr dy im ++ (tW E adn (va_up (va_up ivn 3 (nI (n2 + 1))) 9 (drS ((drS (sd))))) (va_up h11 n2 (drV (sd) 24)) (va_up h12 n2 (drV ((drS (sd))) 10)) (sK (newK Kx n2 n2)))) (by rw [(show (va_up (va_up ivn 3 (nI (n2 + 1))) 9 (drS ((drS (sd))))) = (va_up (va_up (va_up ivn 3 (nI n2)) 9 (drS ((drS (sd))))) 3 (nI (n2 + 1))) from ((up_s (by decide) up_0)).symm)]) hI
            have hI : wI E AR sR H locs (xW E ad iv ch rd tp rf hd (adn 10) tr gr dy im ++ (tW E adn (va_up (va_up ivn 3 (nI (n2 + 1))) 9 (drS ((drS (sd))))) (va_up h11 n2 (drV (sd) 24)) (va_up h12 n2 (drV ((drS (sd))) 10)) (sK (newK Kx n2 n2)))) := hI
            have hp : r_60 = nI n2 := hp
            have hr_60 := hp
            subst hr_60
            refine lv_istore (lv' := [(4, .int (nI n2)), (3, .int (drV (sd) 24)), (0, .ref (ad 11)), (1, .int (nI k0)), (2, .int (nI m))]) hxR hbR dX0_come_63 hl (by decide) rfl (fun ls hl => ?_)
            refine lv_iconst (v := 0) hxR hbR dX0_come_65 (by decide) ?_
            refine lv_istore (lv' := [(5, .int 0), (4, .int (nI n2)), (3, .int (drV (sd) 24)), (0, .ref (ad 11)), (1, .int (nI k0)), (2, .int (nI m))]) hxR hbR dX0_come_66 hl (by decide) rfl (fun ls hl => ?_)
            have lp_68 : ∀ (fu : Nat) (q : Nat) (sd2 : Int32) (Ky : Nat → Nat → Int32) (Sy : Nat → Int32), (q ≤ n2) → ((sd2, Ky) = (cmQ (newK Kx n2 n2) n2 (drS (drS sd)) q)) → (Sy = sK Ky) → (∀ j, q ≤ j → j < n2 → Ky n2 j = -1 ∧ Ky j n2 = -1) → n2 - q < fu → ∀ (H : Heap) (locs : List Loc), wI E AR sR H locs (xW E ad iv ch rd tp rf hd (adn 10) tr gr dy im ++ (tW E adn (va_up (va_up ivn 3 (nI (n2 + 1))) 9 sd2) (va_up h11 n2 (drV (sd) 24)) (va_up h12 n2 (drV ((drS (sd))) 10)) Sy)) → ∀ ls : Array Slot, lv_has ls 6 [(0, .ref (ad 11)), (1, .int (nI k0)), (2, .int (nI m)), (3, .int (drV (sd) 24)), (4, .int (nI n2)), (5, .int (nI q))] → W pR l eR (rmF 4 0 0) sR mR aR bR tR cR H locs 0 0 QR (F0 mR 68 ls []) := by
              intro fu
              induction fu with
              | zero =>
                intro q sd2 Ky Sy hq hQ hSy hnu hfu
                exact absurd hfu (Nat.not_lt_zero _)
              | succ fu ih_68 =>
                intro q sd2 Ky Sy hq hQ hSy hnu hfu H locs hI ls hl
                subst hSy
                refine lv_iload hxR hbR dX0_come_68 (lv_at hl 5 rfl) ?_
                refine lv_iload hxR hbR dX0_come_70 (lv_at hl 4 rfl) ?_
                refine lv_icmp_ge (tgt := 108) hxR hbR dX0_come_72 (by decide) (fun c_72 => ?_) (fun c_72 => ?_)
                · skip
                  have c_72 : n2 ≤ q := (n_le (a := n2) (b := q) (by omega) (by omega)).mp c_72
                  refine lv_iinc (v := nI (m + 1)) (lv' := [(2, .int (nI (m + 1))), (0, .ref (ad 11)), (1, .int (nI k0)), (3, .int (drV (sd) 24)), (4, .int (nI n2)), (5, .int (nI q))]) hxR hbR dX0_come_108 hl (k := 2) rfl (show nI m + 1 = nI (m + 1) from nI_add _ 1) (by decide) rfl (fun ls hl => ?_)
                  refine lv_goto (tgt := 19) hxR hbR dX0_come_111 (by decide) ?_
                  exact ih_19 (m + 1) (n2 + 1) sd2 (va_up h11 n2 (drV (sd) 24)) (va_up h12 n2 (drV ((drS (sd))) 10)) Ky (sK Ky) (by first | omega | with_reducible assumption) (by first | omega | with_reducible assumption) (by first | omega | with_reducible assumption) (by rw [show q = n2 by omega, hn2] at hQ; rw [cmS, ← hT]; subst hn2; rw [← hQ]) rfl (by omega) _ _ hI _ (lv_sub hl [1, 2, 0] rfl)
                · skip
                  have c_72 : q < n2 := Nat.lt_of_not_le (fun zz => c_72 ((n_le (a := n2) (b := q) (by omega) (by omega)).mpr zz))
                  refine lv_aload_n hxR hbR dX0_come_75 rfl (lv_at hl 0 rfl) ?_
                  refine r_get hxR hbR hts hown hK hI okX0 (ci := 0) rfl 8 (he_l xW_o) 0 (by decide) q263 rfl (v := .ref (adn 10)) rfl dX0_come_76 ?_
                  refine lv_iload hxR hbR dX0_come_79 (lv_at hl 4 rfl) ?_
                  refine lv_iload hxR hbR dX0_come_81 (lv_at hl 5 rfl) ?_
                  refine lv_aload_n hxR hbR dX0_come_83 rfl (lv_at hl 0 rfl) ?_
                  refine r_get hxR hbR hts hown hK hI okX0 (ci := 0) rfl 8 (he_l xW_o) 0 (by decide) q263 rfl (v := .ref (adn 10)) rfl dX0_come_84 ?_
                  refine lv_iconst (v := 3) hxR hbR dX0_come_87 (by decide) ?_
                  refine kVI (n := 1) (As := [.int 3]) (rest := [.int (nI q), .int (nI n2), .ref (adn 10)]) (fun w => (xW E ad iv ch rd tp rf hd (adn 10) tr gr dy im) ++ w) hxR hbR hmlR hts hown hK hA hl.1 (isCtx.pre _) hI (c1_draw l E adn (va_up (va_up ivn 3 (nI (n2 + 1))) 9 sd2) (va_up h11 n2 (drV (sd) 24)) (va_up h12 n2 (drV ((drS (sd))) 10)) Ky 3 (by decide)) (lw_V q1437 q1438 q1439 q82 q1440) ⟨rfl, by decide +kernel⟩ 0 1 rfl rfl tW_o rfl (Nat.le_of_ble_eq_true rfl) (Nat.le_of_ble_eq_true rfl) ⟨Nat.le_of_ble_eq_true rfl, Nat.le_of_ble_eq_true rfl⟩ (Nat.le_of_ble_eq_true rfl) dX0_come_88 (fun r_88 u H locs hp hI hz => ?_)
                  have hI : wI E AR sR H locs (xW E ad iv ch rd tp rf hd (adn 10) tr gr dy im ++ (tW E adn (va_up (va_up (va_up ivn 3 (nI (n2 + 1))) 9 sd2) 9 (drS (sd2))) (va_up h11 n2 (drV (sd) 24)) (va_up h12 n2 (drV ((drS (sd))) 10)) (sK Ky))) := hI
                  have hI := wI_w (ws' := xW E ad iv ch rd tp rf hd (adn 10) tr gr dy im ++ (tW E adn (va_up (va_up ivn 3 (nI (n2 + 1))) 9 (drS (sd2))) (va_up h11 n2 (drV (sd) 24)) (va_up h12 n2 (drV ((drS (sd))) 10)) (sK Ky))) (by rw [(show (va_up (va_up ivn 3 (nI (n2 + 1))) 9 (drS (sd2))) = (va_up (va_up (va_up ivn 3 (nI (n2 + 1))) 9 sd2) 9 (drS (sd2))) from (up_0).symm)]) hI
                  have hI : wI E AR sR H locs (xW E ad iv ch rd tp rf hd (adn 10) tr gr dy im ++ (tW E adn (va_up (va_up ivn 3 (nI (n2 + 1))) 9 (drS (sd2))) (va_up h11 n2 (drV (sd) 24)) (va_up h12 n2 (drV ((drS (sd))) 10)) (sK Ky))) := hI
                  have hp : r_88 = drV (sd2) 3 := hp
                  have hr_88 := hp
                  subst hr_88
                  refine lv_if_ne (tgt := 98) hxR hbR dX0_come_91 (by decide) (fun c_91 => ?_) (fun c_91 => ?_)
                  · skip
                    have i_91 : ¬ ((drV (sd2) 3).toInt = 0) := by have zz := mt i_eq.mpr c_91; exact zz
                    refine lv_iconst (v := (-1)) hxR hbR dX0_come_98 (by decide) ?_
                    refine kVV (n := 3) (As := [.int (nI n2), .int (nI q), .int (-1)]) (rest := []) (fun w => (xW E ad iv ch rd tp rf hd (adn 10) tr gr dy im) ++ w) hxR hbR hmlR hts hown hK hA hl.1 (isCtx.pre _) hI (c1_knows l E adn (va_up (va_up ivn 3 (nI (n2 + 1))) 9 (drS (sd2))) (va_up h11 n2 (drV (sd) 24)) (va_up h12 n2 (drV ((drS (sd))) 10)) Ky n2 q (-1) (by first | omega | with_reducible assumption) (by first | omega | with_reducible assumption)) (lw_V q769 q748 q749 q82 q750) ⟨rfl, by decide +kernel⟩ 0 1 rfl rfl tW_o rfl (Nat.le_of_ble_eq_true rfl) (Nat.le_of_ble_eq_true rfl) ⟨Nat.le_of_ble_eq_true rfl, Nat.le_of_ble_eq_true rfl⟩ (Nat.le_of_ble_eq_true rfl) dX0_come_99 (fun u H locs hp hI hz => ?_)
                    have hI : wI E AR sR H locs (xW E ad iv ch rd tp rf hd (adn 10) tr gr dy im ++ (tW E adn (va_up (va_up ivn 3 (nI (n2 + 1))) 9 (drS (sd2))) (va_up h11 n2 (drV (sd) 24)) (va_up h12 n2 (drV ((drS (sd))) 10)) (sK (knF Ky n2 q (-1))))) := hI
                    refine lv_iinc (v := nI (q + 1)) (lv' := [(5, .int (nI (q + 1))), (0, .ref (ad 11)), (1, .int (nI k0)), (2, .int (nI m)), (3, .int (drV (sd) 24)), (4, .int (nI n2))]) hxR hbR dX0_come_102 hl (k := 5) rfl (show nI q + 1 = nI (q + 1) from nI_add _ 1) (by decide) rfl (fun ls hl => ?_)
                    refine lv_goto (tgt := 68) hxR hbR dX0_come_105 (by decide) ?_
                    exact ih_68 (q + 1) (drS (sd2)) Ky (sK (knF Ky n2 q (-1))) (by first | omega | with_reducible assumption) (by rw [cmQ, ← hQ]; first | (rw [if_pos c_91]) | (rw [if_neg c_91])) (by first | rfl | rw [knF_id (hnu q (Nat.le_refl q) (by omega))]) (fun j h1 h2 => by first | exact hnu j (by omega) h2 | exact knF_ne (by omega) (hnu j (by omega) h2) (by omega)) (by omega) _ _ hI _ (lv_sub hl [1, 2, 3, 4, 5, 0] rfl)
                  · skip
                    have i_91 : (drV (sd2) 3).toInt = 0 := by have zz := i_eq.mp c_91; exact zz
                    refine lv_iconst (v := 0) hxR hbR dX0_come_94 (by decide) ?_
                    refine lv_goto (tgt := 99) hxR hbR dX0_come_95 (by decide) ?_
                    refine kVV (n := 3) (As := [.int (nI n2), .int (nI q), .int 0]) (rest := []) (fun w => (xW E ad iv ch rd tp rf hd (adn 10) tr gr dy im) ++ w) hxR hbR hmlR hts hown hK hA hl.1 (isCtx.pre _) hI (c1_knows l E adn (va_up (va_up ivn 3 (nI (n2 + 1))) 9 (drS (sd2))) (va_up h11 n2 (drV (sd) 24)) (va_up h12 n2 (drV ((drS (sd))) 10)) Ky n2 q 0 (by first | omega | with_reducible assumption) (by first | omega | with_reducible assumption)) (lw_V q769 q748 q749 q82 q750) ⟨rfl, by decide +kernel⟩ 0 1 rfl rfl tW_o rfl (Nat.le_of_ble_eq_true rfl) (Nat.le_of_ble_eq_true rfl) ⟨Nat.le_of_ble_eq_true rfl, Nat.le_of_ble_eq_true rfl⟩ (Nat.le_of_ble_eq_true rfl) dX0_come_99 (fun u H locs hp hI hz => ?_)
                    have hI : wI E AR sR H locs (xW E ad iv ch rd tp rf hd (adn 10) tr gr dy im ++ (tW E adn (va_up (va_up ivn 3 (nI (n2 + 1))) 9 (drS (sd2))) (va_up h11 n2 (drV (sd) 24)) (va_up h12 n2 (drV ((drS (sd))) 10)) (sK (knF Ky n2 q 0)))) := hI
                    refine lv_iinc (v := nI (q + 1)) (lv' := [(5, .int (nI (q + 1))), (0, .ref (ad 11)), (1, .int (nI k0)), (2, .int (nI m)), (3, .int (drV (sd) 24)), (4, .int (nI n2))]) hxR hbR dX0_come_102 hl (k := 5) rfl (show nI q + 1 = nI (q + 1) from nI_add _ 1) (by decide) rfl (fun ls hl => ?_)
                    refine lv_goto (tgt := 68) hxR hbR dX0_come_105 (by decide) ?_
                    exact ih_68 (q + 1) (drS (sd2)) (knF Ky n2 q 0) (sK (knF Ky n2 q 0)) (by first | omega | with_reducible assumption) (by rw [cmQ, ← hQ]; first | (rw [if_pos c_91]) | (rw [if_neg c_91])) (by first | rfl | rw [knF_id (hnu q (Nat.le_refl q) (by omega))]) (fun j h1 h2 => by first | exact hnu j (by omega) h2 | exact knF_ne (by omega) (hnu j (by omega) h2) (by omega)) (by omega) _ _ hI _ (lv_sub hl [1, 2, 3, 4, 5, 0] rfl)
            exact lp_68 _ 0 (drS ((drS (sd)))) (newK Kx n2 n2) (sK (newK Kx n2 n2)) (by first | omega | with_reducible assumption) rfl rfl (fun j _ hj => newK_m hj) (Nat.lt_succ_self _) _ _ hI _ (lv_sub hl [3, 4, 5, 2, 1, 0] rfl)
    exact lp_19 _ 0 n (ivn 9) hrn csn K (sK K) (by first | omega | with_reducible assumption) (by first | omega | with_reducible assumption) (by first | omega | with_reducible assumption) rfl rfl (Nat.lt_succ_self _) _ _ hI _ (lv_sub hl [1, 2, 0] rfl)
  · skip
    have c_4 : ¬ (Int32.toInt 1 ≤ Int32.toInt x ∧ Int32.toInt x ≤ Int32.toInt 7) := of_decide_eq_false c_4
    have c_4 : ¬ (1 ≤ x.toInt ∧ x.toInt ≤ 7) := by exact c_4
    refine lv_if_ne (tgt := 17) hxR hbR dX0_come_7 (by decide) (fun c => absurd c (by decide)) (fun _ => ?_)
    refine lv_aload_n hxR hbR dX0_come_10 rfl (lv_at hl 0 rfl) ?_
    refine lv_bipush (v := (-2)) hxR hbR dX0_come_11 (by decide) ?_
    refine kVI (n := 1) (As := [.int (-2)]) (rest := []) (fun w => w ++ (tW E adn ivn hrn csn (sK K))) hxR hbR hmlR hts hown hK hA hl.1 (isCtx.suf _) hI (c0_no l E ad iv ch rd tp rf hd (adn 10) tr gr dy im (-2) 2 (by decide) (by decide)) (lw_V q396 q398 qs2 q81 q399) ⟨rfl, by decide +kernel⟩ 8 0 rfl rfl xW_o rfl (Nat.le_of_ble_eq_true rfl) (Nat.le_of_ble_eq_true rfl) ⟨Nat.le_of_ble_eq_true rfl, Nat.le_of_ble_eq_true rfl⟩ (Nat.le_of_ble_eq_true rfl) dX0_come_13 (fun r_13 u H locs hp hI hz => ?_)
    have hI : wI E AR sR H locs (xW E ad iv ch rd tp (va_up rf 2 (rf 2 + 1)) hd (adn 10) tr gr dy im ++ (tW E adn ivn hrn csn (sK K))) := hI
    have hp : r_13 = (-2) := hp
    have hr_13 := hp
    subst hr_13
    have hC : comeC x = (-2) := by
      clear hret hI
      unfold comeC
      repeat' split
      all_goals first | rfl | (exfalso; omega) | contradiction | (exfalso; simp_all; done) | simp_all
    have erf : bumpR rf (comeC x) = va_up rf 2 (rf 2 + 1) := by rw [hC]; exact bump_2 _
    have eivn3 : gd (comeC x) (nI (n + cmN n x)) (ivn 3) = ivn 3 := by rw [hC]; first | rfl | (simp only [gd_0]; split <;> first | rfl | contradiction) | (exfalso; omega)
    have eivn9 : gd (comeC x) ((cmS n (ivn 9) hrn csn K (cmN n x)).1) (ivn 9) = ivn 9 := by rw [hC]; first | rfl | (simp only [gd_0]; split <;> first | rfl | contradiction) | (exfalso; omega)
    have ehrn : gd (comeC x) ((cmS n (ivn 9) hrn csn K (cmN n x)).2.1) hrn = hrn := by rw [hC]; first | rfl | (simp only [gd_0]; split <;> first | rfl | contradiction) | (exfalso; omega)
    have ecsn : gd (comeC x) ((cmS n (ivn 9) hrn csn K (cmN n x)).2.2.1) csn = csn := by rw [hC]; first | rfl | (simp only [gd_0]; split <;> first | rfl | contradiction) | (exfalso; omega)
    have eSn : sK (gd (comeC x) ((cmS n (ivn 9) hrn csn K (cmN n x)).2.2.2) K) = sK K := by rw [hC]; first | rfl | (simp only [gd_0]; split <;> first | rfl | contradiction) | (exfalso; omega)
    have hI := wI_w (ws' := xW E ad iv ch rd tp (bumpR rf (comeC x)) hd (adn 10) tr gr dy im ++ (tW E adn (va_up (va_up ivn 3 (gd (comeC x) (nI (n + cmN n x)) (ivn 3))) 9 (gd (comeC x) ((cmS n (ivn 9) hrn csn K (cmN n x)).1) (ivn 9))) (gd (comeC x) ((cmS n (ivn 9) hrn csn K (cmN n x)).2.1) hrn) (gd (comeC x) ((cmS n (ivn 9) hrn csn K (cmN n x)).2.2.1) csn) (sK (gd (comeC x) ((cmS n (ivn 9) hrn csn K (cmN n x)).2.2.2) K)))) (by rw [erf, eivn3, eivn9, ehrn, ecsn, eSn, va_up_id (f := ivn) (k := 3) (v := ivn 3) rfl, va_up_id (f := ivn) (k := 9) (v := ivn 9) rfl]; try rfl) hI
    exact hret () (-2) _ _ 0 0 _ _ dX0_come_16 hI (by show (-2) = gd (comeC x) (nI (cmN n x)) (comeC x); rw [hC]; first | rfl | (simp only [gd_0]; split <;> first | rfl | contradiction)) (Nat.le_of_ble_eq_true rfl) (Nat.le_of_ble_eq_true rfl) rfl
