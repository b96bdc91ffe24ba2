theorem kd_0i {b : Nat → Nat} {sz a : Nat} (h : kd b sz a = 0) : fr b sz a = sz := by
  unfold kd at h
  split at h
  · assumption
  · split at h
    · exact absurd h (by decide)
    · split at h
      · exact absurd h (by decide)
      · split at h <;> exact absurd h (by decide)
theorem stm_q {b : Nat → Nat} {sz n st mm a q : Nat} {hour cost : Nat → Int32} {K : Nat → Nat → Int32} {v : TW} (hn : n ≤ 7) (ha : a ≤ sz) (e : stm b sz n st mm hour cost K a = .ok (v, q)) : nx b sz a ≤ q := by
  have h1 := nx_le (b := b) ha
  have h2 := nx2_le (b := b) ha
  have h3 := nx_le (b := b) h1
  have h4 := nx2_le (b := b) h1
  have h5 := nx_le (b := b) h3
  have h6 := nx2_le (b := b) h3
  have h7 := nx_le (b := b) h5
  have h8 := nx2_le (b := b) h5
  by_cases w1 : isW b sz a 1 = true
  · have := co_w1 hn w1 e; omega
  · by_cases w2 : isW b sz a 2 = true
    · rcases co_w2 w2 e with ⟨_, h9⟩ | ⟨_, h9⟩ <;> omega
    · by_cases w3 : isW b sz a 3 = true
      · have := co_w3 w3 e; omega
      · by_cases w4 : isW b sz a 4 = true
        · have := co_w4 w4 e; omega
        · by_cases w5 : isW b sz a 5 = true
          · have := co_w5 w5 e; omega
          · by_cases w6 : isW b sz a 6 = true
            · rw [stm_w6 w6] at e
              split at e
              · cases e
              · rename_i S p e1
                cases e
                rw [← metG_0] at e1
                exact Nat.le_trans h2 (metG_co h1 e1).1
            · rw [stm_none (fun i g1 g6 z => by
                have hi : i = 1 ∨ i = 2 ∨ i = 3 ∨ i = 4 ∨ i = 5 ∨ i = 6 := by omega
                rcases hi with rfl | rfl | rfl | rfl | rfl | rfl
                · exact w1 z
                · exact w2 z
                · exact w3 z
                · exact w4 z
                · exact w5 z
                · exact w6 z)] at e
              cases e

theorem c13_init (l : Launch) (E : En) (o : Nat) (tq sz tn : Nat)  : CtV l E yX13_init cX13_init 4 1 0 0 [.ref o, .ref tq, .int (nI sz), .ref tn] ([(o, .inr (12, [.null, .int 0, .null, .int 0, .int 0, .null, .int 0]))]) (fun (u : Unit) => True) (fun (u : Unit) => rdO E o tq sz tn 0 0 none 0) := by
  refine CtV.of (by decide +kernel) (Nat.le_of_ble_eq_true rfl) ?_
  intro pR eR sR mR aR bR tR cR AR ls QR hxR hbR hmlR hts hown hlk hnm hA hK hI hl hret
  have hl : lv_has ls 4 [(0, .ref o), (1, .ref tq), (2, .int (nI sz)), (3, .ref tn)] := hl
  refine lv_aload_n hxR hbR dX13_init_0 rfl (lv_at hl 0 rfl) ?_
  refine W.objInit hxR hbR hown (hts _ q803) (hts _ q123) (hts _ q124) rfl (by rw [hmlR]; exact hl.1) rfl dX13_init_1 (Nat.le_of_ble_eq_true rfl) (Nat.le_of_ble_eq_true rfl) ?_
  refine W.eq (g2 := F0 mR 4 ls []) rfl ?_
  refine lv_aload_n hxR hbR dX13_init_4 rfl (lv_at hl 0 rfl) ?_
  refine lv_aload_n hxR hbR dX13_init_5 rfl (lv_at hl 1 rfl) ?_
  refine r_putF (v := .ref tq) (ws1 := [(o, .inr (12, [.ref tq, .int 0, .null, .int 0, .int 0, .null, .int 0]))]) hxR hbR hts hown hK hI okX13 (ci := 12) rfl 0 rfl 0 (by decide) q804 rfl rfl hnm rfl rfl rfl (Nat.le_of_ble_eq_true rfl) rfl dX13_init_6 (fun H locs hI => ?_)
  refine lv_aload_n hxR hbR dX13_init_9 rfl (lv_at hl 0 rfl) ?_
  refine lv_iload_n hxR hbR dX13_init_10 rfl (lv_at hl 2 rfl) ?_
  refine r_putF (v := .int (nI sz)) (ws1 := [(o, .inr (12, [.ref tq, .int (nI sz), .null, .int 0, .int 0, .null, .int 0]))]) hxR hbR hts hown hK hI okX13 (ci := 12) rfl 0 rfl 1 (by decide) q805 rfl rfl hnm rfl rfl rfl (Nat.le_of_ble_eq_true rfl) rfl dX13_init_11 (fun H locs hI => ?_)
  refine lv_aload_n hxR hbR dX13_init_14 rfl (lv_at hl 0 rfl) ?_
  refine lv_aload_n hxR hbR dX13_init_15 rfl (lv_at hl 3 rfl) ?_
  refine r_putF (v := .ref tn) (ws1 := [(o, .inr (12, [.ref tq, .int (nI sz), .ref tn, .int 0, .int 0, .null, .int 0]))]) hxR hbR hts hown hK hI okX13 (ci := 12) rfl 0 rfl 2 (by decide) q806 rfl rfl hnm rfl rfl rfl (Nat.le_of_ble_eq_true rfl) rfl dX13_init_16 (fun H locs hI => ?_)
  exact hret () _ _ _ _ _ _ dX13_init_19 hI trivial (Nat.le_of_ble_eq_true rfl) (Nat.le_of_ble_eq_true rfl)

theorem c13_read (l : Launch) (E : En) (o : Nat) (tq : Nat) (fm : Nat) (wd : Option Nat) (nu : Int32) (adn : Nat → Nat) (ivn : Nat → Int32) (hrn : Nat → Int32) (csn : Nat → Int32) (fT : Nat → Int32)  (b : Nat → Nat) (sz : Nat) (K : Nat → Nat → Int32) (n st mm : Nat)  (hlt : l.stackTraces = false) (htp : tpOk fT b sz) (hsz : sz ≤ 250) (hn : ivn 3 = nI n) (hst : ivn 4 = nI st) (hmm : ivn 5 = nI mm) (hn7 : n ≤ 7) : XtI l E yX13_read (ws_ yX13_read cX13_read 2 (some FieldType.int)) 12 (4 * (2 * sz + 2)) (1024 * (2 * sz + 2)) [.ref o] (rdO E o tq sz (adn 10) 0 fm wd nu ++ (tW E adn ivn hrn csn (sK K) ++ (tpW E tq fT ++ (([] : va_W))))) (fun (r : Int32) (u : Nat × Nat × Nat × (Nat → Int32) × (Nat → Int32) × (Nat → Nat → Int32) × Nat × Nat × WD) => r = nI u.2.2.2.2.2.2.1 ∧ (rdA b sz (n, st, mm, hrn, csn, K)) = .ok ((u.1, u.2.1, u.2.2.1, u.2.2.2.1, u.2.2.2.2.1, u.2.2.2.2.2.1), u.2.2.2.2.2.2.1)) (fun (u : Nat × Nat × Nat × (Nat → Int32) × (Nat → Int32) × (Nat → Nat → Int32) × Nat × Nat × WD) => rdO E o tq sz (adn 10) (atC b sz u.2.2.2.2.2.2.2.1) (fr b sz u.2.2.2.2.2.2.2.1) (wdR E b sz u.2.2.2.2.2.2.2.1 u.2.2.2.2.2.2.2.2) (nuC b sz u.2.2.2.2.2.2.2.1) ++ (tW E adn (va_up (va_up (va_up ivn 3 (nI u.1)) 4 (nI u.2.1)) 5 (nI u.2.2.1)) u.2.2.2.1 u.2.2.2.2.1 (sK u.2.2.2.2.2.1) ++ (tpW E tq fT ++ (wdW E b sz u.2.2.2.2.2.2.2.1 u.2.2.2.2.2.2.2.2)))) (fun (En : String) (u : Nat) => En = "ThreeStrangers$Fault" ∧ (rdA b sz (n, st, mm, hrn, csn, K)) = .error u) (fun (u : Nat) (q : Nat) => tpW E tq fT ++ ([(q, .inr (13, [.null, .null, .null, .null, .null, .int 0, .int (nI u)]))])) := by
  have hz0 : 0 ≤ sz := Nat.zero_le _
  have hn0 := nx_le (b := b) hz0
  have hco0 : coE b sz 0 (stm b sz n st mm hrn csn K 0) ≤ (sz - 0) + (sz - nx b sz 0) + 1 := coE_le (fun v q e => (stm_p e hz0 hn7).2.1)
  refine XtI.of (by decide +kernel) (Nat.le_of_ble_eq_true rfl) ?_
  intro pR eR sR mR aR bR tR cR AR ls QR hxR hbR hmlR hts hown hlk hnm hA hK hI hl hret hthr
  have hl : lv_has ls 2 [(0, .ref o)] := hl
  refine lv_iconst (v := 1) hxR hbR dX13_read_0 (by decide) ?_
  refine lv_istore_n (lv' := [(1, .int 1), (0, .ref o)]) hxR hbR dX13_read_1 rfl hl (by decide) rfl (fun ls hl => ?_)
  refine lv_aload_n hxR hbR dX13_read_2 rfl (lv_at hl 1 rfl) ?_
  have hI : wI E AR sR _ _ (rdO E o tq sz (adn 10) 0 fm wd nu ++ (tpW E tq fT ++ (([] : va_W) ++ (tW E adn ivn hrn csn (sK K))))) := wI_pick ([rdO E o tq sz (adn 10) 0 fm wd nu, tW E adn ivn hrn csn (sK K), tpW E tq fT, ([] : va_W)]) [0, 2, 3, 1] 4 rfl (by decide) hI
  have hI := wI_w app3 hI
  refine kVV (n := 0) (As := []) (rest := []) (fun w => w ++ (tW E adn ivn hrn csn (sK K))) hxR hbR hmlR hts hown hK hA hl.1 (isCtx.suf _) hI (c13_next l E o tq (adn 10) fm wd nu fT b sz 0 (by first | omega | with_reducible assumption) (by first | omega | with_reducible assumption) hz0) (lw_V q831 q833 qs8 q107 q834) ⟨rfl, by decide +kernel⟩ 0 12 rfl rfl (he_l rfl) rfl (Nat.le_of_ble_eq_true rfl) (Nat.le_of_ble_eq_true rfl) ⟨by omega, by omega⟩ (Nat.le_of_ble_eq_true rfl) dX13_read_3 (fun u H locs hp hI hz => ?_)
  obtain ⟨w_3, rfl⟩ : ∃ z, z = u := ⟨_, rfl⟩
  have hI := wI_w app3.symm hI
  have hI : wI E AR sR H locs (rdO E o tq sz (adn 10) (atC b sz 0) (fr b sz 0) (wdR E b sz 0 w_3) (nuC b sz 0) ++ (tpW E tq fT ++ (wdW E b sz 0 w_3 ++ (tW E adn ivn hrn csn (sK K))))) := hI
  have hI : wI E AR sR _ _ (rdO E o tq sz (adn 10) (atC b sz 0) (fr b sz 0) (wdR E b sz 0 w_3) (nuC b sz 0) ++ (tW E adn ivn hrn csn (sK K) ++ (tpW E tq fT ++ (wdW E b sz 0 w_3)))) := wI_pick ([rdO E o tq sz (adn 10) (atC b sz 0) (fr b sz 0) (wdR E b sz 0 w_3) (nuC b sz 0), tpW E tq fT, wdW E b sz 0 w_3, tW E adn ivn hrn csn (sK K)]) [0, 3, 1, 2] 4 rfl (by decide) hI
  have hp : wOk b sz 0 w_3 := hp
  have hw_3 := hp
  refine lv_aload_n hxR hbR dX13_read_6 rfl (lv_at hl 1 rfl) ?_
  refine kVVX (n := 0) (As := []) (rest := []) (fun w => w) hxR hbR hmlR hts hown hK hA hl.1 isCtx.id hI (c13_item l E o tq adn ivn hrn csn fT b sz 0 w_3 K n st mm hlt (by first | omega | with_reducible assumption) (by first | omega | with_reducible assumption) hz0 (by first | omega | with_reducible assumption) hn hst hmm hn7) (lw_V q1026 q1028 qs10 q107 q1029) ⟨rfl, by decide +kernel⟩ 0 12 rfl rfl (he_l rfl) rfl (Nat.le_of_ble_eq_true rfl) (Nat.le_of_ble_eq_true rfl) ⟨by omega, by omega⟩ (Nat.le_of_ble_eq_true rfl) dX13_read_7 (fun En ce_7 q_7 u H locs hX hI hz hq1 hq2 hq3 => ?_) (fun u H locs hp hI hz => ?_)
  · skip
    obtain ⟨f9_7, rfl⟩ : ∃ z, z = u := ⟨_, rfl⟩
    have hI : wI E AR sR H locs (tpW E tq fT ++ ([(q_7, .inr (13, [.null, .null, .null, .null, .null, .int 0, .int (nI f9_7)]))])) := hI
    have hX : En = "ThreeStrangers$Fault" ∧ (stm b sz n st mm hrn csn K 0) = .error f9_7 := hX
    obtain ⟨rfl, hok_7⟩ := hX
    exact hthr f9_7 _ _ _ _ _ _ _ _ _ _ hq1 hq2 hq3 hI ⟨rfl, (rdA_1 hok_7)⟩ (by omega) (by omega)
  · skip
    obtain ⟨n2_7, st2_7, mm2_7, hr2_7, cs2_7, K2_7, p2_7, w2_7⟩ := u
    have hI : wI E AR sR H locs (rdO E o tq sz (adn 10) (atC b sz p2_7) (fr b sz p2_7) (wdR E b sz p2_7 w2_7) (nuC b sz p2_7) ++ (tW E adn (va_up (va_up (va_up ivn 3 (nI n2_7)) 4 (nI st2_7)) 5 (nI mm2_7)) hr2_7 cs2_7 (sK K2_7) ++ (tpW E tq fT ++ (wdW E b sz p2_7 w2_7)))) := hI
    have hp : (stm b sz n st mm hrn csn K 0) = .ok ((n2_7, st2_7, mm2_7, hr2_7, cs2_7, K2_7), p2_7) ∧ wOk b sz p2_7 w2_7 := hp
    obtain ⟨hok_7, hw_7⟩ := hp
    obtain ⟨-, hp7, hn17⟩ := stm_p hok_7 hz0 hn7
    have hco7 := coE_ok (b := b) (sz := sz) (a := 0) hok_7
    have hq7 := stm_q hn7 hz0 hok_7
    have hfp7 := fr_ge (b := b) (sz := sz) (a := p2_7)
    have hnp7 := nx_ge (b := b) (sz := sz) (a := p2_7)
    have lp_10 : ∀ (fu : Nat) (n1 : Nat) (st1 : Nat) (mm1 : Nat) (h1 : Nat → Int32) (c1 : Nat → Int32) (K1 : Nat → Nat → Int32) (p : Nat) (w1 : WD) (cn : Nat) (cl : Nat) (sl : Nat), (p ≤ sz) → (n1 ≤ 7) → (rdF b sz (sz + 1 - p) (n1, st1, mm1, h1, c1, K1) p cn = (rdA b sz (n, st, mm, hrn, csn, K))) → (wOk b sz p w1) → (cl ≤ 4 * (1 + p + nx b sz p)) → (sl ≤ 1024 * (1 + p + nx b sz p)) → sz - p < fu → ∀ (H : Heap) (locs : List Loc), wI E AR sR H locs (rdO E o tq sz (adn 10) (atC b sz p) (fr b sz p) (wdR E b sz p w1) (nuC b sz p) ++ (tW E adn (va_up (va_up (va_up ivn 3 (nI n1)) 4 (nI st1)) 5 (nI mm1)) h1 c1 (sK K1) ++ (tpW E tq fT ++ (wdW E b sz p w1)))) → ∀ ls : Array Slot, lv_has ls 2 [(0, .ref o), (1, .int (nI cn))] → W pR l eR (rmF 12 (4 * (2 * sz + 2)) (1024 * (2 * sz + 2))) sR mR aR bR tR cR H locs cl sl QR (F0 mR 10 ls []) := by
      intro fu
      induction fu with
      | zero =>
        intro n1 st1 mm1 h1 c1 K1 p w1 cn cl sl hps hn17 hR hwp hcl hsl hfu
        exact absurd hfu (Nat.not_lt_zero _)
      | succ fu ih_10 =>
        intro n1 st1 mm1 h1 c1 K1 p w1 cn cl sl hps hn17 hR hwp hcl hsl hfu H locs hI ls hl
        have hnp := nx_le (b := b) hp
        have hfp := fr_le (b := b) hp
        have hnp2 := nx_le (b := b) hnp
        have hgp2 := nx2_le (b := b) hp
        refine lv_aload_n hxR hbR dX13_read_10 rfl (lv_at hl 0 rfl) ?_
        refine r_get hxR hbR hts hown hK hI okX13 (ci := 12) rfl 0 (he_l rfl) 4 (by decide) q809 rfl (v := .int (nI (fr b sz p))) rfl dX13_read_11 ?_
        refine lv_aload_n hxR hbR dX13_read_14 rfl (lv_at hl 0 rfl) ?_
        refine r_get hxR hbR hts hown hK hI okX13 (ci := 12) rfl 0 (he_l rfl) 1 (by decide) q805 rfl (v := .int (nI sz)) rfl dX13_read_15 ?_
        refine lv_icmp_ge (tgt := 45) hxR hbR dX13_read_18 (by decide) (fun c_18 => ?_) (fun c_18 => ?_)
        · skip
          have c_18 : sz ≤ (fr b sz p) := (n_le (a := sz) (b := (fr b sz p)) (by omega) (by omega)).mp c_18
          refine lv_iload_n hxR hbR dX13_read_45 rfl (lv_at hl 1 rfl) ?_
          exact hret (n1, st1, mm1, h1, c1, K1, cn, p, w1) (nI cn) _ _ _ _ _ _ dX13_read_46 hI (by show (nI cn) = nI cn ∧ (rdA b sz (n, st, mm, hrn, csn, K)) = .ok ((n1, st1, mm1, h1, c1, K1), cn); exact ⟨rfl, hR.symm.trans (rdF_0 (kd_0 (by omega)))⟩) (by omega) (by omega) rfl
        · skip
          have c_18 : (fr b sz p) < sz := Nat.lt_of_not_le (fun zz => c_18 ((n_le (a := sz) (b := (fr b sz p)) (by omega) (by omega)).mpr zz))
          refine lv_aload_n hxR hbR dX13_read_21 rfl (lv_at hl 0 rfl) ?_
          refine va_ldcS hxR hbR hown (hK.2.2.2.1 ("ThreeStrangers$Reader", 57, ";", 0) (by decide)) dX13_read_22 ?_
          have hkxb : kxC (decide (kd b sz p = 3)) b sz p ≤ 1 + (nx b sz (nx b sz p) - nx b sz p) := by unfold kxC; split <;> omega
          have hI : wI E AR sR _ _ (rdO E o tq sz (adn 10) (atC b sz p) (fr b sz p) (wdR E b sz p w1) (nuC b sz p) ++ (tpW E tq fT ++ (wdW E b sz p w1 ++ (tW E adn (va_up (va_up (va_up ivn 3 (nI n1)) 4 (nI st1)) 5 (nI mm1)) h1 c1 (sK K1))))) := wI_pick ([rdO E o tq sz (adn 10) (atC b sz p) (fr b sz p) (wdR E b sz p w1) (nuC b sz p), tW E adn (va_up (va_up (va_up ivn 3 (nI n1)) 4 (nI st1)) 5 (nI mm1)) h1 c1 (sK K1), tpW E tq fT, wdW E b sz p w1]) [0, 2, 3, 1] 4 rfl (by decide) hI
          have hI := wI_w app3 hI
          refine kVI (n := 1) (As := [.ref (E.1.2.1 0)]) (rest := []) (fun w => w ++ (tW E adn (va_up (va_up (va_up ivn 3 (nI n1)) 4 (nI st1)) 5 (nI mm1)) h1 c1 (sK K1))) hxR hbR hmlR hts hown hK hA hl.1 (isCtx.suf _) hI (c13_takes0 l E o tq (adn 10) fT b sz p w1 (by first | omega | with_reducible assumption) (by first | omega | with_reducible assumption) hp hwp) (lw_V q1138 q1140 qs16 q107 q1141) ⟨rfl, by decide +kernel⟩ 0 12 rfl rfl (he_l rfl) rfl (Nat.le_of_ble_eq_true rfl) (Nat.le_of_ble_eq_true rfl) ⟨by omega, by omega⟩ (Nat.le_of_ble_eq_true rfl) dX13_read_24 (fun r_24 u H locs hp hI hz => ?_)
          obtain ⟨w2_24, rfl⟩ : ∃ z, z = u := ⟨_, rfl⟩
          have hI := wI_w app3.symm hI
          have hI : wI E AR sR H locs (rdO E o tq sz (adn 10) (atC b sz (tkA (decide (kd b sz p = 3)) b sz p)) (fr b sz (tkA (decide (kd b sz p = 3)) b sz p)) (wdR E b sz (tkA (decide (kd b sz p = 3)) b sz p) w2_24) (nuC b sz (tkA (decide (kd b sz p = 3)) b sz p)) ++ (tpW E tq fT ++ (wdW E b sz (tkA (decide (kd b sz p = 3)) b sz p) w2_24 ++ (tW E adn (va_up (va_up (va_up ivn 3 (nI n1)) 4 (nI st1)) 5 (nI mm1)) h1 c1 (sK K1))))) := hI
          have hI : wI E AR sR _ _ (rdO E o tq sz (adn 10) (atC b sz (tkA (decide (kd b sz p = 3)) b sz p)) (fr b sz (tkA (decide (kd b sz p = 3)) b sz p)) (wdR E b sz (tkA (decide (kd b sz p = 3)) b sz p) w2_24) (nuC b sz (tkA (decide (kd b sz p = 3)) b sz p)) ++ (tW E adn (va_up (va_up (va_up ivn 3 (nI n1)) 4 (nI st1)) 5 (nI mm1)) h1 c1 (sK K1) ++ (tpW E tq fT ++ (wdW E b sz (tkA (decide (kd b sz p = 3)) b sz p) w2_24)))) := wI_pick ([rdO E o tq sz (adn 10) (atC b sz (tkA (decide (kd b sz p = 3)) b sz p)) (fr b sz (tkA (decide (kd b sz p = 3)) b sz p)) (wdR E b sz (tkA (decide (kd b sz p = 3)) b sz p) w2_24) (nuC b sz (tkA (decide (kd b sz p = 3)) b sz p)), tpW E tq fT, wdW E b sz (tkA (decide (kd b sz p = 3)) b sz p) w2_24, tW E adn (va_up (va_up (va_up ivn 3 (nI n1)) 4 (nI st1)) 5 (nI mm1)) h1 c1 (sK K1)]) [0, 3, 1, 2] 4 rfl (by decide) hI
          have hp : r_24 = b2i (decide (kd b sz p = 3)) ∧ wOk b sz (tkA (decide (kd b sz p = 3)) b sz p) w2_24 := hp
          obtain ⟨hr_24, hw_24⟩ := hp
          rcases b2i_cases hr_24 with ⟨c_24, rfl⟩ | ⟨c_24, rfl⟩
          · skip
            have c_24 : kd b sz p = 3 := of_decide_eq_true c_24
            have hI := wI_w (ws' := rdO E o tq sz (adn 10) (atC b sz (nx b sz p)) (fr b sz (nx b sz p)) (wdR E b sz (nx b sz p) w2_24) (nuC b sz (nx b sz p)) ++ (tW E adn (va_up (va_up (va_up ivn 3 (nI n1)) 4 (nI st1)) 5 (nI mm1)) h1 c1 (sK K1) ++ (tpW E tq fT ++ (wdW E b sz (nx b sz p) w2_24)))) (by rw [tkA_t (decide_eq_true c_24)]) hI
            have hw9 : wOk b sz (nx b sz p) w2_24 := by have h9 := hw_24; rw [tkA_t (decide_eq_true c_24)] at h9; exact h9
            have hkx := kxC_t (b := b) (sz := sz) (a := p) (decide_eq_true c_24)
            refine lv_if_ne (tgt := 35) hxR hbR dX13_read_27 (by decide) (fun _ => ?_) (fun c => absurd c (by decide))
            have hgtp := nx_gt (b := b) (a := p) (by rw [c_24]; decide) hp
            have hco9 : coE b sz (nx b sz p) (stm b sz n1 st1 mm1 h1 c1 K1 (nx b sz p)) ≤ (sz - nx b sz p) + (sz - nx b sz (nx b sz p)) + 1 := coE_le (fun v q e => (stm_p e hnp hn17).2.1)
            refine lv_aload_n hxR hbR dX13_read_35 rfl (lv_at hl 0 rfl) ?_
            refine kVVX (n := 0) (As := []) (rest := []) (fun w => w) hxR hbR hmlR hts hown hK hA hl.1 isCtx.id hI (c13_item l E o tq adn (va_up (va_up (va_up ivn 3 (nI n1)) 4 (nI st1)) 5 (nI mm1)) h1 c1 fT b sz (nx b sz p) w2_24 K1 n1 st1 mm1 hlt (by first | omega | with_reducible assumption) (by first | omega | with_reducible assumption) hnp hw9 (up_n (by decide) (up_n (by decide) va_up_s)) (up_n (by decide) va_up_s) va_up_s hn17) (lw_V q1026 q1028 qs10 q107 q1029) ⟨rfl, by decide +kernel⟩ 0 12 rfl rfl (he_l rfl) rfl (Nat.le_of_ble_eq_true rfl) (Nat.le_of_ble_eq_true rfl) ⟨by omega, by omega⟩ (Nat.le_of_ble_eq_true rfl) dX13_read_36 (fun En ce_36 q_36 u H locs hX hI hz hq1 hq2 hq3 => ?_) (fun u H locs hp hI hz => ?_)
            · skip
              obtain ⟨f9_36, rfl⟩ : ∃ z, z = u := ⟨_, rfl⟩
              have hI : wI E AR sR H locs (tpW E tq fT ++ ([(q_36, .inr (13, [.null, .null, .null, .null, .null, .int 0, .int (nI f9_36)]))])) := hI
              have hX : En = "ThreeStrangers$Fault" ∧ (stm b sz n1 st1 mm1 h1 c1 K1 (nx b sz p)) = .error f9_36 := hX
              obtain ⟨rfl, hok_36⟩ := hX
              exact hthr f9_36 _ _ _ _ _ _ _ _ _ _ hq1 hq2 hq3 hI ⟨rfl, (hR.symm.trans (rdF_2 hps c_24 hok_36))⟩ (by omega) (by omega)
            · skip
              obtain ⟨n2_36, st2_36, mm2_36, hr2_36, cs2_36, K2_36, p2_36, w2_36⟩ := u
              have hI : wI E AR sR H locs (rdO E o tq sz (adn 10) (atC b sz p2_36) (fr b sz p2_36) (wdR E b sz p2_36 w2_36) (nuC b sz p2_36) ++ (tW E adn (va_up (va_up (va_up (va_up (va_up (va_up ivn 3 (nI n1)) 4 (nI st1)) 5 (nI mm1)) 3 (nI n2_36)) 4 (nI st2_36)) 5 (nI mm2_36)) hr2_36 cs2_36 (sK K2_36) ++ (tpW E tq fT ++ (wdW E b sz p2_36 w2_36)))) := hI
              have hI := wI_w (ws' := rdO E o tq sz (adn 10) (atC b sz p2_36) (fr b sz p2_36) (wdR E b sz p2_36 w2_36) (nuC b sz p2_36) ++ (tW E adn (va_up (va_up (va_up ivn 3 (nI n2_36)) 4 (nI st2_36)) 5 (nI mm2_36)) hr2_36 cs2_36 (sK K2_36) ++ (tpW E tq fT ++ (wdW E b sz p2_36 w2_36)))) (by rw [(show (va_up (va_up (va_up ivn 3 (nI n2_36)) 4 (nI st2_36)) 5 (nI mm2_36)) = (va_up (va_up (va_up (va_up (va_up (va_up ivn 3 (nI n1)) 4 (nI st1)) 5 (nI mm1)) 3 (nI n2_36)) 4 (nI st2_36)) 5 (nI mm2_36)) from ((Eq.trans (congrArg (fun z => va_up z 5 (nI mm2_36)) (Eq.trans (congrArg (fun z => va_up z 4 (nI st2_36)) (up_s (by decide) (up_s (by decide) up_0))) (up_s (by decide) up_0))) up_0)).symm)]) hI
              have hI : wI E AR sR H locs (rdO E o tq sz (adn 10) (atC b sz p2_36) (fr b sz p2_36) (wdR E b sz p2_36 w2_36) (nuC b sz p2_36) ++ (tW E adn (va_up (va_up (va_up ivn 3 (nI n2_36)) 4 (nI st2_36)) 5 (nI mm2_36)) hr2_36 cs2_36 (sK K2_36) ++ (tpW E tq fT ++ (wdW E b sz p2_36 w2_36)))) := hI
              have hp : (stm b sz n1 st1 mm1 h1 c1 K1 (nx b sz p)) = .ok ((n2_36, st2_36, mm2_36, hr2_36, cs2_36, K2_36), p2_36) ∧ wOk b sz p2_36 w2_36 := hp
              obtain ⟨hok_36, hw_36⟩ := hp
              obtain ⟨hlt36, hp36, hn36⟩ := stm_p hok_36 hnp hn17
              have hco36 := coE_ok (b := b) (sz := sz) (a := nx b sz p) hok_36
              have hq36 := stm_q hn17 hnp hok_36
              have hfp36 := fr_ge (b := b) (sz := sz) (a := p2_36)
              have hnp36 := nx_ge (b := b) (sz := sz) (a := p2_36)
              refine lv_iinc (v := nI (cn + 1)) (lv' := [(1, .int (nI (cn + 1))), (0, .ref o)]) hxR hbR dX13_read_39 hl (k := 1) rfl (show nI cn + 1 = nI (cn + 1) from nI_add _ 1) (by decide) rfl (fun ls hl => ?_)
              refine lv_goto (tgt := 10) hxR hbR dX13_read_42 (by decide) ?_
              exact ih_10 n2_36 st2_36 mm2_36 hr2_36 cs2_36 K2_36 p2_36 w2_36 (cn + 1) (cl + (4 * kxC (decide (kd b sz p = 3)) b sz p) + (4 * coE b sz (nx b sz p) (stm b sz n1 st1 mm1 h1 c1 K1 (nx b sz p)))) (sl + (1024 * kxC (decide (kd b sz p = 3)) b sz p) + (1024 * coE b sz (nx b sz p) (stm b sz n1 st1 mm1 h1 c1 K1 (nx b sz p)))) hp36 hn36 (by rw [rdF_3 hps hn17 c_24 hok_36]; exact hR) hw_36 (by omega) (by omega) (by omega) _ _ hI _ (lv_sub hl [1, 0] rfl)
          · skip
            have c_24 : ¬ kd b sz p = 3 := of_decide_eq_false c_24
            have hI := wI_w (ws' := rdO E o tq sz (adn 10) (atC b sz p) (fr b sz p) (wdR E b sz p w2_24) (nuC b sz p) ++ (tW E adn (va_up (va_up (va_up ivn 3 (nI n1)) 4 (nI st1)) 5 (nI mm1)) h1 c1 (sK K1) ++ (tpW E tq fT ++ (wdW E b sz p w2_24)))) (by rw [tkA_f (decide_eq_false c_24)]) hI
            have hw9 : wOk b sz (p) w2_24 := by have h9 := hw_24; rw [tkA_f (decide_eq_false c_24)] at h9; exact h9
            have hkx := kxC_f (b := b) (sz := sz) (a := p) (decide_eq_false c_24)
            refine lv_if_ne (tgt := 35) hxR hbR dX13_read_27 (by decide) (fun c => absurd c (by decide)) (fun _ => ?_)
            refine lv_aload_n hxR hbR dX13_read_30 rfl (lv_at hl 0 rfl) ?_
            have hI : wI E AR sR _ _ (tW E adn (va_up (va_up (va_up ivn 3 (nI n1)) 4 (nI st1)) 5 (nI mm1)) h1 c1 (sK K1) ++ (tpW E tq fT ++ (wdW E b sz p w2_24 ++ (rdO E o tq sz (adn 10) (atC b sz p) (fr b sz p) (wdR E b sz p w2_24) (nuC b sz p))))) := wI_pick ([rdO E o tq sz (adn 10) (atC b sz p) (fr b sz p) (wdR E b sz p w2_24) (nuC b sz p), tW E adn (va_up (va_up (va_up ivn 3 (nI n1)) 4 (nI st1)) 5 (nI mm1)) h1 c1 (sK K1), tpW E tq fT, wdW E b sz p w2_24]) [1, 2, 3, 0] 4 rfl (by decide) hI
            have hI := wI_w app3 hI
            refine kVR (n := 0) (As := []) (rest := []) (fun w => (tW E adn (va_up (va_up (va_up ivn 3 (nI n1)) 4 (nI st1)) 5 (nI mm1)) h1 c1 (sK K1) ++ (tpW E tq fT ++ (wdW E b sz p w2_24))) ++ w) hxR hbR hmlR hts hown hK hA hl.1 (isCtx.pre _) hI (c13_wrong l E o tq (adn 10) (atC b sz p) (fr b sz p) (wdR E b sz p w2_24) (nuC b sz p) sz ) (lw_V q1030 q1032 qs11 q107 q1033) ⟨rfl, by decide +kernel⟩ 0 12 rfl rfl rfl rfl (Nat.le_of_ble_eq_true rfl) (Nat.le_of_ble_eq_true rfl) ⟨by omega, by omega⟩ (Nat.le_of_ble_eq_true rfl) dX13_read_31 (fun u r_31 H locs hp hI hz => ?_)
            have hI := wI_w app3.symm hI
            have hI : wI E AR sR H locs (tW E adn (va_up (va_up (va_up ivn 3 (nI n1)) 4 (nI st1)) 5 (nI mm1)) h1 c1 (sK K1) ++ (tpW E tq fT ++ (wdW E b sz p w2_24 ++ (rdO E o tq sz (adn 10) (atC b sz p) (fr b sz p) (wdR E b sz p w2_24) (nuC b sz p) ++ ([(r_31, .inr (13, [.null, .null, .null, .null, .null, .int 0, .int (nI (fr b sz p))]))]))))) := hI
            have hI : wI E AR sR _ _ (tW E adn (va_up (va_up (va_up ivn 3 (nI n1)) 4 (nI st1)) 5 (nI mm1)) h1 c1 (sK K1) ++ (wdW E b sz p w2_24 ++ (rdO E o tq sz (adn 10) (atC b sz p) (fr b sz p) (wdR E b sz p w2_24) (nuC b sz p) ++ (tpW E tq fT ++ ([(r_31, .inr (13, [.null, .null, .null, .null, .null, .int 0, .int (nI (fr b sz p))]))]))))) := wI_pick ([tW E adn (va_up (va_up (va_up ivn 3 (nI n1)) 4 (nI st1)) 5 (nI mm1)) h1 c1 (sK K1), tpW E tq fT, wdW E b sz p w2_24, rdO E o tq sz (adn 10) (atC b sz p) (fr b sz p) (wdR E b sz p w2_24) (nuC b sz p), [(r_31, .inr (13, [.null, .null, .null, .null, .null, .int 0, .int (nI (fr b sz p))]))]]) [0, 2, 3, 1, 4] 5 rfl (by decide) hI
            have hI := wI_dropL hI
            have hI := wI_dropL hI
            have hI := wI_dropL hI
            have hI : wI E AR sR _ _ (tpW E tq fT ++ ([(r_31, .inr (13, [.null, .null, .null, .null, .null, .int 0, .int (nI (fr b sz p))]))])) := hI
            refine vx_athrow hxR hbR dX13_read_34 ?_
            obtain ⟨ce_34, hq1, hq2, hq3⟩ := wI_thrown hK hI (ci := 13) (nm := "ThreeStrangers$Fault") rfl rfl (q0 := (1 + 0)) (he_r (Nat.le_of_ble_eq_true rfl) (Nat.le_of_ble_eq_true rfl) rfl)
            exact hthr (fr b sz p) _ _ _ _ _ _ _ _ _ _ hq1 hq2 hq3 hI ⟨rfl, (hR.symm.trans (rdF_1 hps (fun z => by have := kd_0i z; omega) c_24))⟩ (by omega) (by omega)
    exact lp_10 _ n2_7 st2_7 mm2_7 hr2_7 cs2_7 K2_7 p2_7 w2_7 1 (0 + (4 * (1 + (nx b sz 0 - 0))) + (4 * coE b sz 0 (stm b sz n st mm hrn csn K 0))) (0 + (1024 * (1 + (nx b sz 0 - 0))) + (1024 * coE b sz 0 (stm b sz n st mm hrn csn K 0))) hp7 hn17 (rdA_2 hok_7).symm hw_7 (by omega) (by omega) (Nat.lt_succ_self _) _ _ hI _ (lv_sub hl [1, 0] rfl)
