theorem waitsC_y {n : Nat} {sh : Nat → Int32} {x p : Int32} (h : p = -1 ∨ (0 ≤ p.toInt ∧ p.toInt < (n : Int))) : waitsC n sh x p = noManV sh x := by
  unfold waitsC
  by_cases h1 : 0 ≤ x.toInt ∧ x.toInt ≤ 7
  · exact if_pos ⟨h1, h⟩
  · rw [if_neg (fun z => h1 z.1), noManV, if_neg h1]
theorem waitsC_n {n : Nat} {sh : Nat → Int32} {x p : Int32} (h : ¬ (p = -1 ∨ (0 ≤ p.toInt ∧ p.toInt < (n : Int)))) : waitsC n sh x p = -2 := by
  unfold waitsC
  exact if_neg (fun z => h z.2)
theorem sendsC_y {n : Nat} {sh : Nat → Int32} {x y t : Int32} (h1 : 0 ≤ y.toInt ∧ y.toInt < ((2 ^ n : Nat) : Int)) (h2 : 0 ≤ t.toInt ∧ t.toInt ≤ 7) : sendsC n sh x y t = noManV sh x := by
  unfold sendsC
  by_cases h : 0 ≤ x.toInt ∧ x.toInt ≤ 7
  · exact if_pos ⟨h, h1, h2⟩
  · rw [if_neg (fun z => h z.1), noManV, if_neg h]
theorem sendsC_n {n : Nat} {sh : Nat → Int32} {x y t : Int32} (h : ¬ ((0 ≤ y.toInt ∧ y.toInt < ((2 ^ n : Nat) : Int)) ∧ (0 ≤ t.toInt ∧ t.toInt ≤ 7))) : sendsC n sh x y t = -2 := by
  unfold sendsC
  exact if_neg (fun z => h z.2)
theorem dayC_256 {K : Nat → Nat → Int32} {cost hour : Nat → Int32} {n st kd a : Nat} (hn : n ≤ 7) (hh : ∀ q, q < n → ∃ x, x < 24 ∧ hour q = nI x) : ∀ g ∈ dayC K cost hour n st kd a, g < 256 := by
  have := (dayP_inv (K := K) (cost := cost) (st := st) (kd := kd) (a := a) (w0 := fun _ => 0) hn hh n (Nat.le_refl n)).2.2
  rw [dayC_eq] at this
  exact this

theorem c0_waits (l : Launch) (E : En) (ad : Nat → Nat) (iv : Nat → Int32) (ch : Nat → Int32) (rd : Nat → Int32) (tp : Nat → Int32) (rf : Nat → Int32) (tr : Nat) (im : Option Nat) (add : Nat → Nat) (ivd : Nat → Int32) (odd : Nat → Int32) (cod : Nat → Int32) (wtd : Nat → Int32) (tnd : Option Nat) (gnd : Option Nat) (adg : Nat → Nat) (ivg : Nat → Int32) (grg : Nat → Int32) (pag : Nat → Int32) (mog : Nat → Int32) (sgg : Nat → Int32) (tng : Option Nat) (adn : Nat → Nat) (ivn : Nat → Int32) (hrn : Nat → Int32) (csn : Nat → Int32) (aqI : Nat → Nat) (shI : Nat → Int32) (soI : Nat → Int32) (szI : Nat → Int32) (kmI : Nat → Int32) (bmI : Nat → Int32) (RI : Nat → Nat → Int64) (K : Nat → Nat → Int32) (n st : Nat) (x i : Int32) (hlt : l.stackTraces = false) (hn : ivn 3 = nI n) (hst : ivn 4 = nI st) (hn7 : n ≤ 7) (hs2 : 2 ≤ st) (hs4 : st ≤ 4) (hsym : kSym K n) (hh : (∀ q, q < n → ∃ x, x < 24 ∧ hrn q = nI x)) (hsh : ∀ P, P < 8 → shI P = 0 ∨ shI P = 1 ∨ shI P = 2) (hso : ∀ P, P < 8 → ∃ k, k ≤ 4 ∧ soI P = nI k) (hsz : ∀ P, P < 8 → ∃ k, k ≤ 40 ∧ szI P = nI k) (hkm : ∀ P, P < 8 → shI P = 2 → ∃ k, 1 ≤ k ∧ k ≤ 5 ∧ kmI P = nI k) (hbm : ∀ P, P < 8 → ∃ k, k < 100 ∧ bmI P = nI k) : XtI l E yX0_waits (wsW_ yX0_waits cX0_waits 4 (some FieldType.int) [(0, 45, 46, 111)]) 15 1 7 [.ref (ad 11), .int x, .int i] (xW E ad iv ch rd tp rf (hdI shI aqI) (adn 10) tr (adg 8) (add 7) im ++ (dW E add ivd odd cod wtd tnd gnd ++ (gW E adg ivg grg pag mog sgg tng ++ (tW E adn ivn hrn csn (sK K) ++ (itsW (itF E aqI shI soI szI kmI bmI RI)))))) (fun (r : Int32) (u : (Nat → Int32) × (Nat → Int32) × (Nat → Int32) × (Nat → Int32) × (Option Nat) × Int32 × (Nat → Int32) × (Nat → Int32) × (Nat → Int32) × (Option Nat) × (Option Nat) × Int32 × Int32) => r = gd (waitsC n shI x i) (waitsV K csn hrn n st (kdV kmI x) (kdV bmI x) i) (waitsC n shI x i)) (fun (u : (Nat → Int32) × (Nat → Int32) × (Nat → Int32) × (Nat → Int32) × (Option Nat) × Int32 × (Nat → Int32) × (Nat → Int32) × (Nat → Int32) × (Option Nat) × (Option Nat) × Int32 × Int32) => xW E ad iv ch rd tp (bumpR rf (waitsC n shI x i)) (hdI shI aqI) (adn 10) tr (adg 8) (add 7) im ++ (dW E add (va_up (va_up ivd 5 u.2.2.2.2.2.2.2.2.2.2.2.1) 6 u.2.2.2.2.2.2.2.2.2.2.2.2) u.2.2.2.2.2.2.1 u.2.2.2.2.2.2.2.1 u.2.2.2.2.2.2.2.2.1 u.2.2.2.2.2.2.2.2.2.1 u.2.2.2.2.2.2.2.2.2.2.1 ++ (gW E adg (va_up ivg 5 u.2.2.2.2.2.1) u.2.2.1 u.2.2.2.1 u.1 u.2.1 u.2.2.2.2.1 ++ (tW E adn ivn hrn csn (sK K) ++ (itsW (itF E aqI shI soI szI kmI bmI RI)))))) (fun (_ : String) (_ : Unit) => False) (fun (_ : Unit) (_ : Nat) => []) := by
  refine XtI.ofH (by decide +kernel) (Nat.le_of_ble_eq_true rfl) ?_
  intro pR eR sR mR aR bR tR cR AR ls QR hxR hbR hmlR hts hown hlk hnm hA hK hI hl htab hret hthr
  have hl : lv_has ls 4 [(0, .ref (ad 11)), (1, .int x), (2, .int i)] := hl
  refine lv_aload_n hxR hbR dX0_waits_0 rfl (lv_at hl 0 rfl) ?_
  refine lv_iload_n hxR hbR dX0_waits_1 rfl (lv_at hl 1 rfl) ?_
  refine lv_iload_n hxR hbR dX0_waits_2 rfl (lv_at hl 2 rfl) ?_
  refine lv_iconst (v := (-1)) hxR hbR dX0_waits_3 (by decide) ?_
  refine lv_icmp_eq (tgt := 18) hxR hbR dX0_waits_4 (by decide) (fun c_4 => ?_) (fun c_4 => ?_)
  · skip
    have i_4 : i.toInt = (-1) := by have zz := i_eq.mp c_4; exact zz
    refine lv_iconst (v := 1) hxR hbR dX0_waits_18 (by decide) ?_
    refine lv_goto (tgt := 23) hxR hbR dX0_waits_19 (by decide) ?_
    refine kVRX (n := 2) (As := [.int x, .int 1]) (rest := []) (fun w => w) hxR hbR hmlR hts hown hK hA hl.1 isCtx.id hI (c0_dayBy l E ad iv ch rd tp rf tr im add ivd odd cod wtd tnd gnd adg ivg grg pag mog sgg tng adn ivn hrn csn aqI shI soI szI kmI bmI RI K n st x 1 hlt hn hst (by first | omega | with_reducible assumption) (by first | omega | with_reducible assumption) (by first | omega | with_reducible assumption) (by first | omega | with_reducible assumption) (by first | omega | with_reducible assumption) (by first | omega | with_reducible assumption) (by first | omega | with_reducible assumption) (by first | omega | with_reducible assumption) (by first | omega | with_reducible assumption) (by first | omega | with_reducible assumption)) (lw_V q1224 q1226 qs19 q81 q1227) ⟨rfl, by decide +kernel⟩ 8 0 rfl rfl (he_l xW_o) rfl (Nat.le_of_ble_eq_true rfl) (Nat.le_of_ble_eq_true rfl) ⟨by omega, by omega⟩ (Nat.le_of_ble_eq_true rfl) dX0_waits_23 (fun En ce_23 q_23 u H locs hX hI hz hq1 hq2 hq3 => ?_) (fun r_23 u H locs hp hI hz => ?_)
    · skip
      have hI : wI E AR sR H locs (xW E ad iv ch rd tp rf (hdI shI aqI) (adn 10) tr (adg 8) (add 7) im ++ (dW E add ivd odd cod wtd tnd gnd ++ (gW E adg ivg grg pag mog sgg tng ++ (tW E adn ivn hrn csn (sK K) ++ (itsW (itF E aqI shI soI szI kmI bmI RI) ++ ([(q_23, .inr (6, [.null, .null, .null, .null, .null, .int 0, .int (coaV shI 1 x)]))])))))) := hI
      have hI : wI E AR sR _ _ (xW E ad iv ch rd tp rf (hdI shI aqI) (adn 10) tr (adg 8) (add 7) im ++ (dW E add ivd odd cod wtd tnd gnd ++ (gW E adg ivg grg pag mog sgg tng ++ (tW E adn ivn hrn csn (sK K) ++ ([(q_23, .inr (6, [.null, .null, .null, .null, .null, .int 0, .int (coaV shI 1 x)]))] ++ (itsW (itF E aqI shI soI szI kmI bmI RI))))))) := wI_pick ([xW E ad iv ch rd tp rf (hdI shI aqI) (adn 10) tr (adg 8) (add 7) im, dW E add ivd odd cod wtd tnd gnd, gW E adg ivg grg pag mog sgg tng, tW E adn ivn hrn csn (sK K), itsW (itF E aqI shI soI szI kmI bmI RI), [(q_23, .inr (6, [.null, .null, .null, .null, .null, .int 0, .int (coaV shI 1 x)]))]]) [0, 1, 2, 3, 5, 4] 6 rfl (by decide) hI
      have hX : En = "ThreeStrangers$Refused" ∧ ¬ coaV shI 1 x = 0 := hX
      obtain ⟨rfl, hy9_23⟩ := hX
      refine r_catch 0 _ hown hts hK.xw htab rfl (fun z hz => absurd hz List.not_mem_nil) (by decide) (by decide) q410 q436 hq1 hq2 hq3 ?_
      refine W.eq (g2 := F0 mR 46 ls [.ref q_23]) rfl ?_
      refine lv_astore_n (lv' := [(3, .ref q_23), (0, .ref (ad 11)), (1, .int x), (2, .int i)]) hxR hbR dX0_waits_46 rfl hl (by decide) rfl (fun ls hl => ?_)
      refine lv_aload_n hxR hbR dX0_waits_47 rfl (lv_at hl 1 rfl) ?_
      refine lv_aload_n hxR hbR dX0_waits_48 rfl (lv_at hl 0 rfl) ?_
      refine r_get hxR hbR hts hown hK hI okX6 (ci := 6) rfl (14 + (4 + (5 + (4 + 0)))) (he_r (Nat.le_of_ble_eq_true rfl) (Nat.le_of_ble_eq_true rfl) (he_r (Nat.le_of_ble_eq_true rfl) (Nat.le_of_ble_eq_true rfl) (he_r (Nat.le_of_ble_eq_true rfl) (Nat.le_of_ble_eq_true rfl) (he_r (Nat.le_of_ble_eq_true rfl) (Nat.le_of_ble_eq_true rfl) (he_l rfl))))) 6 (by decide) q456 rfl (v := .int (coaV shI 1 x)) rfl dX0_waits_49 ?_
      refine kVI (n := 1) (As := [.int (coaV shI 1 x)]) (rest := []) (fun w => w ++ (dW E add ivd odd cod wtd tnd gnd ++ (gW E adg ivg grg pag mog sgg tng ++ (tW E adn ivn hrn csn (sK K) ++ ([(q_23, .inr (6, [.null, .null, .null, .null, .null, .int 0, .int (coaV shI 1 x)]))] ++ (itsW (itF E aqI shI soI szI kmI bmI RI))))))) hxR hbR hmlR hts hown hK hA hl.1 (isCtx.suf _) hI (c0_noV l E ad iv ch rd tp rf (hdI shI aqI) (adn 10) tr (adg 8) (add 7) im (coaV shI 1 x) (r5 (coa_r hy9_23))) (lw_V q396 q398 qs2 q81 q399) ⟨rfl, by decide +kernel⟩ 8 0 rfl rfl xW_o rfl (Nat.le_of_ble_eq_true rfl) (Nat.le_of_ble_eq_true rfl) ⟨Nat.le_of_ble_eq_true rfl, Nat.le_of_ble_eq_true rfl⟩ (Nat.le_of_ble_eq_true rfl) dX0_waits_52 (fun r_52 u H locs hp hI hz => ?_)
      have hI : wI E AR sR H locs (xW E ad iv ch rd tp (bumpR rf (coaV shI 1 x)) (hdI shI aqI) (adn 10) tr (adg 8) (add 7) im ++ (dW E add ivd odd cod wtd tnd gnd ++ (gW E adg ivg grg pag mog sgg tng ++ (tW E adn ivn hrn csn (sK K) ++ ([(q_23, .inr (6, [.null, .null, .null, .null, .null, .int 0, .int (coaV shI 1 x)]))] ++ (itsW (itF E aqI shI soI szI kmI bmI RI))))))) := hI
      have hp : r_52 = (coaV shI 1 x) := hp
      have hr_52 := hp
      subst hr_52
      have hI : wI E AR sR _ _ ([(q_23, .inr (6, [.null, .null, .null, .null, .null, .int 0, .int (coaV shI 1 x)]))] ++ (xW E ad iv ch rd tp (bumpR rf (coaV shI 1 x)) (hdI shI aqI) (adn 10) tr (adg 8) (add 7) im ++ (dW E add ivd odd cod wtd tnd gnd ++ (gW E adg ivg grg pag mog sgg tng ++ (tW E adn ivn hrn csn (sK K) ++ (itsW (itF E aqI shI soI szI kmI bmI RI))))))) := wI_pick ([xW E ad iv ch rd tp (bumpR rf (coaV shI 1 x)) (hdI shI aqI) (adn 10) tr (adg 8) (add 7) im, dW E add ivd odd cod wtd tnd gnd, gW E adg ivg grg pag mog sgg tng, tW E adn ivn hrn csn (sK K), [(q_23, .inr (6, [.null, .null, .null, .null, .null, .int 0, .int (coaV shI 1 x)]))], itsW (itF E aqI shI soI szI kmI bmI RI)]) [4, 0, 1, 2, 3, 5] 6 rfl (by decide) hI
      have hI := wI_dropL hI
      have hC : waitsC n shI x i = coaV shI 1 x := by
        clear hret hI
        exact (waitsC_y (Or.inl c_4)).trans (coa_n (by decide)).symm
      have erf : bumpR rf (waitsC n shI x i) = bumpR rf (coaV shI 1 x) := by rw [hC]
      have hI := wI_w (ws' := xW E ad iv ch rd tp (bumpR rf (waitsC n shI x i)) (hdI shI aqI) (adn 10) tr (adg 8) (add 7) im ++ (dW E add (va_up (va_up ivd 5 (ivd 5)) 6 (ivd 6)) odd cod wtd tnd gnd ++ (gW E adg (va_up ivg 5 (ivg 5)) grg pag mog sgg tng ++ (tW E adn ivn hrn csn (sK K) ++ (itsW (itF E aqI shI soI szI kmI bmI RI)))))) (by rw [erf, va_up_id (f := ivd) (k := 5) (v := ivd 5) rfl, va_up_id (f := ivd) (k := 6) (v := ivd 6) rfl, va_up_id (f := ivg) (k := 5) (v := ivg 5) rfl]; try rfl) hI
      exact hret (mog, sgg, grg, pag, tng, ivg 5, odd, cod, wtd, tnd, gnd, ivd 5, ivd 6) (coaV shI 1 x) _ _ (0 + 1) (0 + 7) _ _ dX0_waits_55 hI (by show (coaV shI 1 x) = gd (waitsC n shI x i) (waitsV K csn hrn n st (kdV kmI x) (kdV bmI x) i) (waitsC n shI x i); rw [hC]; exact (gd_n hy9_23).symm) (Nat.le_of_ble_eq_true rfl) (Nat.le_of_ble_eq_true rfl) rfl
    · skip
      obtain ⟨mo2_23, sg2_23, gr2_23, pa2_23, tn2_23, c5_23, od2_23, co2_23, wt2_23⟩ := u
      have hI : wI E AR sR H locs (xW E ad iv ch rd tp rf (hdI shI aqI) (adn 10) tr (adg 8) (add 7) im ++ (dW E add (va_up (va_up ivd 5 (nI ((dayC K csn hrn n st (kdV kmI x) (kdV bmI x)).length))) 6 (nI (dayY K csn hrn n st (kdV kmI x) (kdV bmI x)))) od2_23 co2_23 wt2_23 (some (adn 10)) (some (adg 8)) ++ (gW E adg (va_up ivg 5 c5_23) gr2_23 pa2_23 mo2_23 sg2_23 tn2_23 ++ (tW E adn ivn hrn csn (sK K) ++ (itsW (itF E aqI shI soI szI kmI bmI RI)))))) := hI
      have hp : r_23 = add 7 ∧ (∀ i, i < (dayC K csn hrn n st (kdV kmI x) (kdV bmI x)).length → co2_23 i = nI ((dayC K csn hrn n st (kdV kmI x) (kdV bmI x)).getD i 0)) ∧ (∀ p, p < n → wt2_23 p = dayW K csn hrn n st (kdV kmI x) (kdV bmI x) p) ∧ coaV shI 1 x = 0 := hp
      obtain ⟨rfl, hco2_23, hwt2_23, hy0_23⟩ := hp
      refine lv_astore_n (lv' := [(3, .ref (add 7)), (0, .ref (ad 11)), (1, .int x), (2, .int i)]) hxR hbR dX0_waits_26 rfl hl (by decide) rfl (fun ls hl => ?_)
      refine lv_iload_n hxR hbR dX0_waits_27 rfl (lv_at hl 3 rfl) ?_
      refine lv_iconst (v := (-1)) hxR hbR dX0_waits_28 (by decide) ?_
      refine lv_icmp_ne (tgt := 39) hxR hbR dX0_waits_29 (by decide) (fun c_29 => ?_) (fun c_29 => ?_)
      · skip
        have i_29 : ¬ (i.toInt = (-1)) := by have zz := mt i_eq.mpr c_29; exact zz
        exfalso
        exact c_29 c_4
      · skip
        have i_29 : i.toInt = (-1) := by have zz := i_eq.mp c_29; exact zz
        refine lv_aload_n hxR hbR dX0_waits_32 rfl (lv_at hl 0 rfl) ?_
        have hI : wI E AR sR _ _ (dW E add (va_up (va_up ivd 5 (nI ((dayC K csn hrn n st (kdV kmI x) (kdV bmI x)).length))) 6 (nI (dayY K csn hrn n st (kdV kmI x) (kdV bmI x)))) od2_23 co2_23 wt2_23 (some (adn 10)) (some (adg 8)) ++ (tW E adn ivn hrn csn (sK K) ++ (xW E ad iv ch rd tp rf (hdI shI aqI) (adn 10) tr (adg 8) (add 7) im ++ (gW E adg (va_up ivg 5 c5_23) gr2_23 pa2_23 mo2_23 sg2_23 tn2_23 ++ (itsW (itF E aqI shI soI szI kmI bmI RI)))))) := wI_pick ([xW E ad iv ch rd tp rf (hdI shI aqI) (adn 10) tr (adg 8) (add 7) im, dW E add (va_up (va_up ivd 5 (nI ((dayC K csn hrn n st (kdV kmI x) (kdV bmI x)).length))) 6 (nI (dayY K csn hrn n st (kdV kmI x) (kdV bmI x)))) od2_23 co2_23 wt2_23 (some (adn 10)) (some (adg 8)), gW E adg (va_up ivg 5 c5_23) gr2_23 pa2_23 mo2_23 sg2_23 tn2_23, tW E adn ivn hrn csn (sK K), itsW (itF E aqI shI soI szI kmI bmI RI)]) [1, 3, 0, 2, 4] 5 rfl (by decide) hI
        have hI := wI_w app2 hI
        refine kVI (n := 0) (As := []) (rest := []) (fun w => w ++ (xW E ad iv ch rd tp rf (hdI shI aqI) (adn 10) tr (adg 8) (add 7) im ++ (gW E adg (va_up ivg 5 c5_23) gr2_23 pa2_23 mo2_23 sg2_23 tn2_23 ++ (itsW (itF E aqI shI soI szI kmI bmI RI))))) hxR hbR hmlR hts hown hK hA hl.1 (isCtx.suf _) hI (c3_waiting l E add (va_up (va_up ivd 5 (nI ((dayC K csn hrn n st (kdV kmI x) (kdV bmI x)).length))) 6 (nI (dayY K csn hrn n st (kdV kmI x) (kdV bmI x)))) od2_23 co2_23 wt2_23 (some (adg 8)) adn ivn hrn csn K n hn (by first | omega | with_reducible assumption)) (lw_V q1258 q1259 q1260 q84 q1261) ⟨rfl, by decide +kernel⟩ 0 3 rfl rfl (he_l dW_o) rfl (Nat.le_of_ble_eq_true rfl) (Nat.le_of_ble_eq_true rfl) ⟨Nat.le_of_ble_eq_true rfl, Nat.le_of_ble_eq_true rfl⟩ (Nat.le_of_ble_eq_true rfl) dX0_waits_33 (fun r_33 u H locs hp hI hz => ?_)
        have hI := wI_w app2.symm hI
        have hI : wI E AR sR H locs (dW E add (va_up (va_up ivd 5 (nI ((dayC K csn hrn n st (kdV kmI x) (kdV bmI x)).length))) 6 (nI (dayY K csn hrn n st (kdV kmI x) (kdV bmI x)))) od2_23 co2_23 wt2_23 (some (adn 10)) (some (adg 8)) ++ (tW E adn ivn hrn csn (sK K) ++ (xW E ad iv ch rd tp rf (hdI shI aqI) (adn 10) tr (adg 8) (add 7) im ++ (gW E adg (va_up ivg 5 c5_23) gr2_23 pa2_23 mo2_23 sg2_23 tn2_23 ++ (itsW (itF E aqI shI soI szI kmI bmI RI)))))) := hI
        have hI : wI E AR sR _ _ (xW E ad iv ch rd tp rf (hdI shI aqI) (adn 10) tr (adg 8) (add 7) im ++ (dW E add (va_up (va_up ivd 5 (nI ((dayC K csn hrn n st (kdV kmI x) (kdV bmI x)).length))) 6 (nI (dayY K csn hrn n st (kdV kmI x) (kdV bmI x)))) od2_23 co2_23 wt2_23 (some (adn 10)) (some (adg 8)) ++ (gW E adg (va_up ivg 5 c5_23) gr2_23 pa2_23 mo2_23 sg2_23 tn2_23 ++ (tW E adn ivn hrn csn (sK K) ++ (itsW (itF E aqI shI soI szI kmI bmI RI)))))) := wI_pick ([dW E add (va_up (va_up ivd 5 (nI ((dayC K csn hrn n st (kdV kmI x) (kdV bmI x)).length))) 6 (nI (dayY K csn hrn n st (kdV kmI x) (kdV bmI x)))) od2_23 co2_23 wt2_23 (some (adn 10)) (some (adg 8)), tW E adn ivn hrn csn (sK K), xW E ad iv ch rd tp rf (hdI shI aqI) (adn 10) tr (adg 8) (add 7) im, gW E adg (va_up ivg 5 c5_23) gr2_23 pa2_23 mo2_23 sg2_23 tn2_23, itsW (itF E aqI shI soI szI kmI bmI RI)]) [2, 0, 3, 1, 4] 5 rfl (by decide) hI
        have hp : r_33 = sumA wt2_23 n := hp
        have hr_33 := hp
        subst hr_33
        refine lv_goto (tgt := 45) hxR hbR dX0_waits_36 (by decide) ?_
        have hC : waitsC n shI x i = 0 := by
          clear hret hI
          exact (waitsC_y (Or.inl c_4)).trans ((coa_n (by decide)).symm.trans hy0_23)
        have erf : bumpR rf (waitsC n shI x i) = rf := by rw [hC]; exact bump_0 _
        have hI := wI_w (ws' := xW E ad iv ch rd tp (bumpR rf (waitsC n shI x i)) (hdI shI aqI) (adn 10) tr (adg 8) (add 7) im ++ (dW E add (va_up (va_up ivd 5 (nI ((dayC K csn hrn n st (kdV kmI x) (kdV bmI x)).length))) 6 (nI (dayY K csn hrn n st (kdV kmI x) (kdV bmI x)))) od2_23 co2_23 wt2_23 (some (adn 10)) (some (adg 8)) ++ (gW E adg (va_up ivg 5 c5_23) gr2_23 pa2_23 mo2_23 sg2_23 tn2_23 ++ (tW E adn ivn hrn csn (sK K) ++ (itsW (itF E aqI shI soI szI kmI bmI RI)))))) (by rw [erf]; try rfl) hI
        exact hret (mo2_23, sg2_23, gr2_23, pa2_23, tn2_23, c5_23, od2_23, co2_23, wt2_23, some (adn 10), some (adg 8), nI ((dayC K csn hrn n st (kdV kmI x) (kdV bmI x)).length), nI (dayY K csn hrn n st (kdV kmI x) (kdV bmI x))) (sumA wt2_23 n) _ _ (0 + 1) (0 + 7) _ _ dX0_waits_45 hI (by show (sumA wt2_23 n) = gd (waitsC n shI x i) (waitsV K csn hrn n st (kdV kmI x) (kdV bmI x) i) (waitsC n shI x i); rw [hC, gd_0]; unfold waitsV; rw [if_pos c_4]; exact sumA_ext n hwt2_23) (Nat.le_of_ble_eq_true rfl) (Nat.le_of_ble_eq_true rfl) rfl
  · skip
    have i_4 : ¬ (i.toInt = (-1)) := by have zz := mt i_eq.mpr c_4; exact zz
    refine lv_aload_n hxR hbR dX0_waits_7 rfl (lv_at hl 0 rfl) ?_
    refine r_get hxR hbR hts hown hK hI okX0 (ci := 0) rfl 8 (he_l xW_o) 0 (by decide) q263 rfl (v := .ref (adn 10)) rfl dX0_waits_8 ?_
    refine lv_iload_n hxR hbR dX0_waits_11 rfl (lv_at hl 2 rfl) ?_
    have hI := wI_w app3 hI
    refine kVI (n := 1) (As := [.int i]) (rest := [.int x, .ref (ad 11)]) (fun w => (xW E ad iv ch rd tp rf (hdI shI aqI) (adn 10) tr (adg 8) (add 7) im ++ (dW E add ivd odd cod wtd tnd gnd ++ (gW E adg ivg grg pag mog sgg tng))) ++ (w ++ (itsW (itF E aqI shI soI szI kmI bmI RI)))) hxR hbR hmlR hts hown hK hA hl.1 (isCtx.mk _ _) hI (c1_isOne l E adn ivn hrn csn K n i hn (by omega)) (lw_V q755 q756 q757 q82 q758) ⟨rfl, by decide +kernel⟩ 0 1 rfl rfl tW_o rfl (Nat.le_of_ble_eq_true rfl) (Nat.le_of_ble_eq_true rfl) ⟨Nat.le_of_ble_eq_true rfl, Nat.le_of_ble_eq_true rfl⟩ (Nat.le_of_ble_eq_true rfl) dX0_waits_12 (fun r_12 u H locs hp hI hz => ?_)
    have hI := wI_w app3.symm hI
    have hI : wI E AR sR H locs (xW E ad iv ch rd tp rf (hdI shI aqI) (adn 10) tr (adg 8) (add 7) im ++ (dW E add ivd odd cod wtd tnd gnd ++ (gW E adg ivg grg pag mog sgg tng ++ (tW E adn ivn hrn csn (sK K) ++ (itsW (itF E aqI shI soI szI kmI bmI RI)))))) := hI
    have hp : r_12 = b2i (decide (0 ≤ i.toInt ∧ i.toInt < (n : Int))) := hp
    have hr_12 := hp
    rcases b2i_cases hr_12 with ⟨c_12, rfl⟩ | ⟨c_12, rfl⟩
    · skip
      have c_12 : 0 ≤ Int32.toInt i ∧ Int32.toInt i < (n : Int) := of_decide_eq_true c_12
      obtain ⟨ix, hix, rfl⟩ := nat_of c_12 (by omega)
      have tix : (nI ix).toInt = (ix : Int) := nI_toInt (by omega)
      refine lv_if_eq (tgt := 22) hxR hbR dX0_waits_15 (by decide) (fun c => absurd c (by decide)) (fun _ => ?_)
      refine lv_iconst (v := 1) hxR hbR dX0_waits_18 (by decide) ?_
      refine lv_goto (tgt := 23) hxR hbR dX0_waits_19 (by decide) ?_
      refine kVRX (n := 2) (As := [.int x, .int 1]) (rest := []) (fun w => w) hxR hbR hmlR hts hown hK hA hl.1 isCtx.id hI (c0_dayBy l E ad iv ch rd tp rf tr im add ivd odd cod wtd tnd gnd adg ivg grg pag mog sgg tng adn ivn hrn csn aqI shI soI szI kmI bmI RI K n st x 1 hlt hn hst (by first | omega | with_reducible assumption) (by first | omega | with_reducible assumption) (by first | omega | with_reducible assumption) (by first | omega | with_reducible assumption) (by first | omega | with_reducible assumption) (by first | omega | with_reducible assumption) (by first | omega | with_reducible assumption) (by first | omega | with_reducible assumption) (by first | omega | with_reducible assumption) (by first | omega | with_reducible assumption)) (lw_V q1224 q1226 qs19 q81 q1227) ⟨rfl, by decide +kernel⟩ 8 0 rfl rfl (he_l xW_o) rfl (Nat.le_of_ble_eq_true rfl) (Nat.le_of_ble_eq_true rfl) ⟨by omega, by omega⟩ (Nat.le_of_ble_eq_true rfl) dX0_waits_23 (fun En ce_23 q_23 u H locs hX hI hz hq1 hq2 hq3 => ?_) (fun r_23 u H locs hp hI hz => ?_)
      · skip
        have hI : wI E AR sR H locs (xW E ad iv ch rd tp rf (hdI shI aqI) (adn 10) tr (adg 8) (add 7) im ++ (dW E add ivd odd cod wtd tnd gnd ++ (gW E adg ivg grg pag mog sgg tng ++ (tW E adn ivn hrn csn (sK K) ++ (itsW (itF E aqI shI soI szI kmI bmI RI) ++ ([(q_23, .inr (6, [.null, .null, .null, .null, .null, .int 0, .int (coaV shI 1 x)]))])))))) := hI
        have hI : wI E AR sR _ _ (xW E ad iv ch rd tp rf (hdI shI aqI) (adn 10) tr (adg 8) (add 7) im ++ (dW E add ivd odd cod wtd tnd gnd ++ (gW E adg ivg grg pag mog sgg tng ++ (tW E adn ivn hrn csn (sK K) ++ ([(q_23, .inr (6, [.null, .null, .null, .null, .null, .int 0, .int (coaV shI 1 x)]))] ++ (itsW (itF E aqI shI soI szI kmI bmI RI))))))) := wI_pick ([xW E ad iv ch rd tp rf (hdI shI aqI) (adn 10) tr (adg 8) (add 7) im, dW E add ivd odd cod wtd tnd gnd, gW E adg ivg grg pag mog sgg tng, tW E adn ivn hrn csn (sK K), itsW (itF E aqI shI soI szI kmI bmI RI), [(q_23, .inr (6, [.null, .null, .null, .null, .null, .int 0, .int (coaV shI 1 x)]))]]) [0, 1, 2, 3, 5, 4] 6 rfl (by decide) hI
        have hX : En = "ThreeStrangers$Refused" ∧ ¬ coaV shI 1 x = 0 := hX
        obtain ⟨rfl, hy9_23⟩ := hX
        refine r_catch 0 _ hown hts hK.xw htab rfl (fun z hz => absurd hz List.not_mem_nil) (by decide) (by decide) q410 q436 hq1 hq2 hq3 ?_
        refine W.eq (g2 := F0 mR 46 ls [.ref q_23]) rfl ?_
        refine lv_astore_n (lv' := [(3, .ref q_23), (0, .ref (ad 11)), (1, .int x), (2, .int (nI ix))]) hxR hbR dX0_waits_46 rfl hl (by decide) rfl (fun ls hl => ?_)
        refine lv_aload_n hxR hbR dX0_waits_47 rfl (lv_at hl 1 rfl) ?_
        refine lv_aload_n hxR hbR dX0_waits_48 rfl (lv_at hl 0 rfl) ?_
        refine r_get hxR hbR hts hown hK hI okX6 (ci := 6) rfl (14 + (4 + (5 + (4 + 0)))) (he_r (Nat.le_of_ble_eq_true rfl) (Nat.le_of_ble_eq_true rfl) (he_r (Nat.le_of_ble_eq_true rfl) (Nat.le_of_ble_eq_true rfl) (he_r (Nat.le_of_ble_eq_true rfl) (Nat.le_of_ble_eq_true rfl) (he_r (Nat.le_of_ble_eq_true rfl) (Nat.le_of_ble_eq_true rfl) (he_l rfl))))) 6 (by decide) q456 rfl (v := .int (coaV shI 1 x)) rfl dX0_waits_49 ?_
        refine kVI (n := 1) (As := [.int (coaV shI 1 x)]) (rest := []) (fun w => w ++ (dW E add ivd odd cod wtd tnd gnd ++ (gW E adg ivg grg pag mog sgg tng ++ (tW E adn ivn hrn csn (sK K) ++ ([(q_23, .inr (6, [.null, .null, .null, .null, .null, .int 0, .int (coaV shI 1 x)]))] ++ (itsW (itF E aqI shI soI szI kmI bmI RI))))))) hxR hbR hmlR hts hown hK hA hl.1 (isCtx.suf _) hI (c0_noV l E ad iv ch rd tp rf (hdI shI aqI) (adn 10) tr (adg 8) (add 7) im (coaV shI 1 x) (r5 (coa_r hy9_23))) (lw_V q396 q398 qs2 q81 q399) ⟨rfl, by decide +kernel⟩ 8 0 rfl rfl xW_o rfl (Nat.le_of_ble_eq_true rfl) (Nat.le_of_ble_eq_true rfl) ⟨Nat.le_of_ble_eq_true rfl, Nat.le_of_ble_eq_true rfl⟩ (Nat.le_of_ble_eq_true rfl) dX0_waits_52 (fun r_52 u H locs hp hI hz => ?_)
        have hI : wI E AR sR H locs (xW E ad iv ch rd tp (bumpR rf (coaV shI 1 x)) (hdI shI aqI) (adn 10) tr (adg 8) (add 7) im ++ (dW E add ivd odd cod wtd tnd gnd ++ (gW E adg ivg grg pag mog sgg tng ++ (tW E adn ivn hrn csn (sK K) ++ ([(q_23, .inr (6, [.null, .null, .null, .null, .null, .int 0, .int (coaV shI 1 x)]))] ++ (itsW (itF E aqI shI soI szI kmI bmI RI))))))) := hI
        have hp : r_52 = (coaV shI 1 x) := hp
        have hr_52 := hp
        subst hr_52
        have hI : wI E AR sR _ _ ([(q_23, .inr (6, [.null, .null, .null, .null, .null, .int 0, .int (coaV shI 1 x)]))] ++ (xW E ad iv ch rd tp (bumpR rf (coaV shI 1 x)) (hdI shI aqI) (adn 10) tr (adg 8) (add 7) im ++ (dW E add ivd odd cod wtd tnd gnd ++ (gW E adg ivg grg pag mog sgg tng ++ (tW E adn ivn hrn csn (sK K) ++ (itsW (itF E aqI shI soI szI kmI bmI RI))))))) := wI_pick ([xW E ad iv ch rd tp (bumpR rf (coaV shI 1 x)) (hdI shI aqI) (adn 10) tr (adg 8) (add 7) im, dW E add ivd odd cod wtd tnd gnd, gW E adg ivg grg pag mog sgg tng, tW E adn ivn hrn csn (sK K), [(q_23, .inr (6, [.null, .null, .null, .null, .null, .int 0, .int (coaV shI 1 x)]))], itsW (itF E aqI shI soI szI kmI bmI RI)]) [4, 0, 1, 2, 3, 5] 6 rfl (by decide) hI
        have hI := wI_dropL hI
        have hC : waitsC n shI x (nI ix) = coaV shI 1 x := by
          clear hret hI
          exact (waitsC_y (Or.inr c_12)).trans (coa_n (by decide)).symm
        have erf : bumpR rf (waitsC n shI x (nI ix)) = bumpR rf (coaV shI 1 x) := by rw [hC]
        have hI := wI_w (ws' := xW E ad iv ch rd tp (bumpR rf (waitsC n shI x (nI ix))) (hdI shI aqI) (adn 10) tr (adg 8) (add 7) im ++ (dW E add (va_up (va_up ivd 5 (ivd 5)) 6 (ivd 6)) odd cod wtd tnd gnd ++ (gW E adg (va_up ivg 5 (ivg 5)) grg pag mog sgg tng ++ (tW E adn ivn hrn csn (sK K) ++ (itsW (itF E aqI shI soI szI kmI bmI RI)))))) (by rw [erf, va_up_id (f := ivd) (k := 5) (v := ivd 5) rfl, va_up_id (f := ivd) (k := 6) (v := ivd 6) rfl, va_up_id (f := ivg) (k := 5) (v := ivg 5) rfl]; try rfl) hI
        exact hret (mog, sgg, grg, pag, tng, ivg 5, odd, cod, wtd, tnd, gnd, ivd 5, ivd 6) (coaV shI 1 x) _ _ (0 + 1) (0 + 7) _ _ dX0_waits_55 hI (by show (coaV shI 1 x) = gd (waitsC n shI x (nI ix)) (waitsV K csn hrn n st (kdV kmI x) (kdV bmI x) (nI ix)) (waitsC n shI x (nI ix)); rw [hC]; exact (gd_n hy9_23).symm) (Nat.le_of_ble_eq_true rfl) (Nat.le_of_ble_eq_true rfl) rfl
      · skip
        obtain ⟨mo2_23, sg2_23, gr2_23, pa2_23, tn2_23, c5_23, od2_23, co2_23, wt2_23⟩ := u
        have hI : wI E AR sR H locs (xW E ad iv ch rd tp rf (hdI shI aqI) (adn 10) tr (adg 8) (add 7) im ++ (dW E add (va_up (va_up ivd 5 (nI ((dayC K csn hrn n st (kdV kmI x) (kdV bmI x)).length))) 6 (nI (dayY K csn hrn n st (kdV kmI x) (kdV bmI x)))) od2_23 co2_23 wt2_23 (some (adn 10)) (some (adg 8)) ++ (gW E adg (va_up ivg 5 c5_23) gr2_23 pa2_23 mo2_23 sg2_23 tn2_23 ++ (tW E adn ivn hrn csn (sK K) ++ (itsW (itF E aqI shI soI szI kmI bmI RI)))))) := hI
        have hp : r_23 = add 7 ∧ (∀ i, i < (dayC K csn hrn n st (kdV kmI x) (kdV bmI x)).length → co2_23 i = nI ((dayC K csn hrn n st (kdV kmI x) (kdV bmI x)).getD i 0)) ∧ (∀ p, p < n → wt2_23 p = dayW K csn hrn n st (kdV kmI x) (kdV bmI x) p) ∧ coaV shI 1 x = 0 := hp
        obtain ⟨rfl, hco2_23, hwt2_23, hy0_23⟩ := hp
        refine lv_astore_n (lv' := [(3, .ref (add 7)), (0, .ref (ad 11)), (1, .int x), (2, .int (nI ix))]) hxR hbR dX0_waits_26 rfl hl (by decide) rfl (fun ls hl => ?_)
        refine lv_iload_n hxR hbR dX0_waits_27 rfl (lv_at hl 3 rfl) ?_
        refine lv_iconst (v := (-1)) hxR hbR dX0_waits_28 (by decide) ?_
        refine lv_icmp_ne (tgt := 39) hxR hbR dX0_waits_29 (by decide) (fun c_29 => ?_) (fun c_29 => ?_)
        · skip
          have i_29 : ¬ ((ix : Int) = (-1)) := by have zz := mt i_eq.mpr c_29; rw [nI_toInt (n := ix) (by omega)] at zz; exact zz
          refine lv_aload_n hxR hbR dX0_waits_39 rfl (lv_at hl 0 rfl) ?_
          refine r_get hxR hbR hts hown hK hI okX3 (ci := 3) rfl (14 + 0) (he_r (Nat.le_of_ble_eq_true rfl) (Nat.le_of_ble_eq_true rfl) (he_l dW_o)) 2 (by decide) q229 rfl (v := .ref (add 2)) rfl dX0_waits_40 ?_
          refine lv_iload_n hxR hbR dX0_waits_43 rfl (lv_at hl 3 rfl) ?_
          refine r_iald hxR hbR hK hI (14 + 3) (n := 7) (J := ix) (f := wt2_23) (v := dayW K csn hrn n st (kdV kmI x) (kdV bmI x) ix) (he_r (Nat.le_of_ble_eq_true rfl) (Nat.le_of_ble_eq_true rfl) (he_l (dW_g2 rfl))) (by omega) (by decide) (hwt2_23 ix (by omega)) dX0_waits_44 ?_
          have hC : waitsC n shI x (nI ix) = 0 := by
            clear hret hI
            exact (waitsC_y (Or.inr c_12)).trans ((coa_n (by decide)).symm.trans hy0_23)
          have erf : bumpR rf (waitsC n shI x (nI ix)) = rf := by rw [hC]; exact bump_0 _
          have hI := wI_w (ws' := xW E ad iv ch rd tp (bumpR rf (waitsC n shI x (nI ix))) (hdI shI aqI) (adn 10) tr (adg 8) (add 7) im ++ (dW E add (va_up (va_up ivd 5 (nI ((dayC K csn hrn n st (kdV kmI x) (kdV bmI x)).length))) 6 (nI (dayY K csn hrn n st (kdV kmI x) (kdV bmI x)))) od2_23 co2_23 wt2_23 (some (adn 10)) (some (adg 8)) ++ (gW E adg (va_up ivg 5 c5_23) gr2_23 pa2_23 mo2_23 sg2_23 tn2_23 ++ (tW E adn ivn hrn csn (sK K) ++ (itsW (itF E aqI shI soI szI kmI bmI RI)))))) (by rw [erf]; try rfl) hI
          exact hret (mo2_23, sg2_23, gr2_23, pa2_23, tn2_23, c5_23, od2_23, co2_23, wt2_23, some (adn 10), some (adg 8), nI ((dayC K csn hrn n st (kdV kmI x) (kdV bmI x)).length), nI (dayY K csn hrn n st (kdV kmI x) (kdV bmI x))) (dayW K csn hrn n st (kdV kmI x) (kdV bmI x) ix) _ _ (0 + 1) (0 + 7) _ _ dX0_waits_45 hI (by show (dayW K csn hrn n st (kdV kmI x) (kdV bmI x) ix) = gd (waitsC n shI x (nI ix)) (waitsV K csn hrn n st (kdV kmI x) (kdV bmI x) (nI ix)) (waitsC n shI x (nI ix)); rw [hC, gd_0]; unfold waitsV; rw [if_neg (fun z => nI_m1' (by omega) z)]; simp only [nI_clamp (n := ix) (by omega)]) (Nat.le_of_ble_eq_true rfl) (Nat.le_of_ble_eq_true rfl) rfl
        · skip
          have i_29 : (ix : Int) = (-1) := by have zz := i_eq.mp c_29; rw [nI_toInt (n := ix) (by omega)] at zz; exact zz
          exfalso
          exact nI_m1' (by omega) c_29
    · skip
      have c_12 : ¬ (0 ≤ Int32.toInt i ∧ Int32.toInt i < (n : Int)) := of_decide_eq_false c_12
      refine lv_if_eq (tgt := 22) hxR hbR dX0_waits_15 (by decide) (fun _ => ?_) (fun c => absurd c (by decide))
      refine lv_iconst (v := 0) hxR hbR dX0_waits_22 (by decide) ?_
      refine kVRX (n := 2) (As := [.int x, .int 0]) (rest := []) (fun w => w) hxR hbR hmlR hts hown hK hA hl.1 isCtx.id hI (c0_dayBy l E ad iv ch rd tp rf tr im add ivd odd cod wtd tnd gnd adg ivg grg pag mog sgg tng adn ivn hrn csn aqI shI soI szI kmI bmI RI K n st x 0 hlt hn hst (by first | omega | with_reducible assumption) (by first | omega | with_reducible assumption) (by first | omega | with_reducible assumption) (by first | omega | with_reducible assumption) (by first | omega | with_reducible assumption) (by first | omega | with_reducible assumption) (by first | omega | with_reducible assumption) (by first | omega | with_reducible assumption) (by first | omega | with_reducible assumption) (by first | omega | with_reducible assumption)) (lw_V q1224 q1226 qs19 q81 q1227) ⟨rfl, by decide +kernel⟩ 8 0 rfl rfl (he_l xW_o) rfl (Nat.le_of_ble_eq_true rfl) (Nat.le_of_ble_eq_true rfl) ⟨by omega, by omega⟩ (Nat.le_of_ble_eq_true rfl) dX0_waits_23 (fun En ce_23 q_23 u H locs hX hI hz hq1 hq2 hq3 => ?_) (fun r_23 u H locs hp hI hz => ?_)
      · skip
        have hI : wI E AR sR H locs (xW E ad iv ch rd tp rf (hdI shI aqI) (adn 10) tr (adg 8) (add 7) im ++ (dW E add ivd odd cod wtd tnd gnd ++ (gW E adg ivg grg pag mog sgg tng ++ (tW E adn ivn hrn csn (sK K) ++ (itsW (itF E aqI shI soI szI kmI bmI RI) ++ ([(q_23, .inr (6, [.null, .null, .null, .null, .null, .int 0, .int (coaV shI 0 x)]))])))))) := hI
        have hI : wI E AR sR _ _ (xW E ad iv ch rd tp rf (hdI shI aqI) (adn 10) tr (adg 8) (add 7) im ++ (dW E add ivd odd cod wtd tnd gnd ++ (gW E adg ivg grg pag mog sgg tng ++ (tW E adn ivn hrn csn (sK K) ++ ([(q_23, .inr (6, [.null, .null, .null, .null, .null, .int 0, .int (coaV shI 0 x)]))] ++ (itsW (itF E aqI shI soI szI kmI bmI RI))))))) := wI_pick ([xW E ad iv ch rd tp rf (hdI shI aqI) (adn 10) tr (adg 8) (add 7) im, dW E add ivd odd cod wtd tnd gnd, gW E adg ivg grg pag mog sgg tng, tW E adn ivn hrn csn (sK K), itsW (itF E aqI shI soI szI kmI bmI RI), [(q_23, .inr (6, [.null, .null, .null, .null, .null, .int 0, .int (coaV shI 0 x)]))]]) [0, 1, 2, 3, 5, 4] 6 rfl (by decide) hI
        have hX : En = "ThreeStrangers$Refused" ∧ ¬ coaV shI 0 x = 0 := hX
        obtain ⟨rfl, hy9_23⟩ := hX
        refine r_catch 0 _ hown hts hK.xw htab rfl (fun z hz => absurd hz List.not_mem_nil) (by decide) (by decide) q410 q436 hq1 hq2 hq3 ?_
        refine W.eq (g2 := F0 mR 46 ls [.ref q_23]) rfl ?_
        refine lv_astore_n (lv' := [(3, .ref q_23), (0, .ref (ad 11)), (1, .int x), (2, .int i)]) hxR hbR dX0_waits_46 rfl hl (by decide) rfl (fun ls hl => ?_)
        refine lv_aload_n hxR hbR dX0_waits_47 rfl (lv_at hl 1 rfl) ?_
        refine lv_aload_n hxR hbR dX0_waits_48 rfl (lv_at hl 0 rfl) ?_
        refine r_get hxR hbR hts hown hK hI okX6 (ci := 6) rfl (14 + (4 + (5 + (4 + 0)))) (he_r (Nat.le_of_ble_eq_true rfl) (Nat.le_of_ble_eq_true rfl) (he_r (Nat.le_of_ble_eq_true rfl) (Nat.le_of_ble_eq_true rfl) (he_r (Nat.le_of_ble_eq_true rfl) (Nat.le_of_ble_eq_true rfl) (he_r (Nat.le_of_ble_eq_true rfl) (Nat.le_of_ble_eq_true rfl) (he_l rfl))))) 6 (by decide) q456 rfl (v := .int (coaV shI 0 x)) rfl dX0_waits_49 ?_
        refine kVI (n := 1) (As := [.int (coaV shI 0 x)]) (rest := []) (fun w => w ++ (dW E add ivd odd cod wtd tnd gnd ++ (gW E adg ivg grg pag mog sgg tng ++ (tW E adn ivn hrn csn (sK K) ++ ([(q_23, .inr (6, [.null, .null, .null, .null, .null, .int 0, .int (coaV shI 0 x)]))] ++ (itsW (itF E aqI shI soI szI kmI bmI RI))))))) hxR hbR hmlR hts hown hK hA hl.1 (isCtx.suf _) hI (c0_noV l E ad iv ch rd tp rf (hdI shI aqI) (adn 10) tr (adg 8) (add 7) im (coaV shI 0 x) (r5 (coa_r hy9_23))) (lw_V q396 q398 qs2 q81 q399) ⟨rfl, by decide +kernel⟩ 8 0 rfl rfl xW_o rfl (Nat.le_of_ble_eq_true rfl) (Nat.le_of_ble_eq_true rfl) ⟨Nat.le_of_ble_eq_true rfl, Nat.le_of_ble_eq_true rfl⟩ (Nat.le_of_ble_eq_true rfl) dX0_waits_52 (fun r_52 u H locs hp hI hz => ?_)
        have hI : wI E AR sR H locs (xW E ad iv ch rd tp (bumpR rf (coaV shI 0 x)) (hdI shI aqI) (adn 10) tr (adg 8) (add 7) im ++ (dW E add ivd odd cod wtd tnd gnd ++ (gW E adg ivg grg pag mog sgg tng ++ (tW E adn ivn hrn csn (sK K) ++ ([(q_23, .inr (6, [.null, .null, .null, .null, .null, .int 0, .int (coaV shI 0 x)]))] ++ (itsW (itF E aqI shI soI szI kmI bmI RI))))))) := hI
        have hp : r_52 = (coaV shI 0 x) := hp
        have hr_52 := hp
        subst hr_52
        have hI : wI E AR sR _ _ ([(q_23, .inr (6, [.null, .null, .null, .null, .null, .int 0, .int (coaV shI 0 x)]))] ++ (xW E ad iv ch rd tp (bumpR rf (coaV shI 0 x)) (hdI shI aqI) (adn 10) tr (adg 8) (add 7) im ++ (dW E add ivd odd cod wtd tnd gnd ++ (gW E adg ivg grg pag mog sgg tng ++ (tW E adn ivn hrn csn (sK K) ++ (itsW (itF E aqI shI soI szI kmI bmI RI))))))) := wI_pick ([xW E ad iv ch rd tp (bumpR rf (coaV shI 0 x)) (hdI shI aqI) (adn 10) tr (adg 8) (add 7) im, dW E add ivd odd cod wtd tnd gnd, gW E adg ivg grg pag mog sgg tng, tW E adn ivn hrn csn (sK K), [(q_23, .inr (6, [.null, .null, .null, .null, .null, .int 0, .int (coaV shI 0 x)]))], itsW (itF E aqI shI soI szI kmI bmI RI)]) [4, 0, 1, 2, 3, 5] 6 rfl (by decide) hI
        have hI := wI_dropL hI
        have hC : waitsC n shI x i = coaV shI 0 x := by
          clear hret hI
          rw [coa_m rfl]; exact waitsC_n (fun z => z.elim c_4 c_12)
        have erf : bumpR rf (waitsC n shI x i) = bumpR rf (coaV shI 0 x) := by rw [hC]
        have hI := wI_w (ws' := xW E ad iv ch rd tp (bumpR rf (waitsC n shI x i)) (hdI shI aqI) (adn 10) tr (adg 8) (add 7) im ++ (dW E add (va_up (va_up ivd 5 (ivd 5)) 6 (ivd 6)) odd cod wtd tnd gnd ++ (gW E adg (va_up ivg 5 (ivg 5)) grg pag mog sgg tng ++ (tW E adn ivn hrn csn (sK K) ++ (itsW (itF E aqI shI soI szI kmI bmI RI)))))) (by rw [erf, va_up_id (f := ivd) (k := 5) (v := ivd 5) rfl, va_up_id (f := ivd) (k := 6) (v := ivd 6) rfl, va_up_id (f := ivg) (k := 5) (v := ivg 5) rfl]; try rfl) hI
        exact hret (mog, sgg, grg, pag, tng, ivg 5, odd, cod, wtd, tnd, gnd, ivd 5, ivd 6) (coaV shI 0 x) _ _ (0 + 1) (0 + 7) _ _ dX0_waits_55 hI (by show (coaV shI 0 x) = gd (waitsC n shI x i) (waitsV K csn hrn n st (kdV kmI x) (kdV bmI x) i) (waitsC n shI x i); rw [hC]; exact (gd_n hy9_23).symm) (Nat.le_of_ble_eq_true rfl) (Nat.le_of_ble_eq_true rfl) rfl
      · skip
        obtain ⟨mo2_23, sg2_23, gr2_23, pa2_23, tn2_23, c5_23, od2_23, co2_23, wt2_23⟩ := u
        have hI : wI E AR sR H locs (xW E ad iv ch rd tp rf (hdI shI aqI) (adn 10) tr (adg 8) (add 7) im ++ (dW E add (va_up (va_up ivd 5 (nI ((dayC K csn hrn n st (kdV kmI x) (kdV bmI x)).length))) 6 (nI (dayY K csn hrn n st (kdV kmI x) (kdV bmI x)))) od2_23 co2_23 wt2_23 (some (adn 10)) (some (adg 8)) ++ (gW E adg (va_up ivg 5 c5_23) gr2_23 pa2_23 mo2_23 sg2_23 tn2_23 ++ (tW E adn ivn hrn csn (sK K) ++ (itsW (itF E aqI shI soI szI kmI bmI RI)))))) := hI
        have hp : r_23 = add 7 ∧ (∀ i, i < (dayC K csn hrn n st (kdV kmI x) (kdV bmI x)).length → co2_23 i = nI ((dayC K csn hrn n st (kdV kmI x) (kdV bmI x)).getD i 0)) ∧ (∀ p, p < n → wt2_23 p = dayW K csn hrn n st (kdV kmI x) (kdV bmI x) p) ∧ coaV shI 0 x = 0 := hp
        obtain ⟨rfl, hco2_23, hwt2_23, hy0_23⟩ := hp
        exfalso
        exact absurd ((coa_m rfl).symm.trans hy0_23) (by decide)

theorem c0_day (l : Launch) (E : En) (ad : Nat → Nat) (iv : Nat → Int32) (ch : Nat → Int32) (rd : Nat → Int32) (tp : Nat → Int32) (rf : Nat → Int32) (tr : Nat) (im : Option Nat) (add : Nat → Nat) (ivd : Nat → Int32) (odd : Nat → Int32) (cod : Nat → Int32) (wtd : Nat → Int32) (tnd : Option Nat) (gnd : Option Nat) (adg : Nat → Nat) (ivg : Nat → Int32) (grg : Nat → Int32) (pag : Nat → Int32) (mog : Nat → Int32) (sgg : Nat → Int32) (tng : Option Nat) (adn : Nat → Nat) (ivn : Nat → Int32) (hrn : Nat → Int32) (csn : Nat → Int32) (aqI : Nat → Nat) (shI : Nat → Int32) (soI : Nat → Int32) (szI : Nat → Int32) (kmI : Nat → Int32) (bmI : Nat → Int32) (RI : Nat → Nat → Int64) (K : Nat → Nat → Int32) (n st : Nat) (x : Int32) (hlt : l.stackTraces = false) (hn : ivn 3 = nI n) (hst : ivn 4 = nI st) (hn7 : n ≤ 7) (hs2 : 2 ≤ st) (hs4 : st ≤ 4) (hsym : kSym K n) (hh : (∀ q, q < n → ∃ x, x < 24 ∧ hrn q = nI x)) (hsh : ∀ P, P < 8 → shI P = 0 ∨ shI P = 1 ∨ shI P = 2) (hso : ∀ P, P < 8 → ∃ k, k ≤ 4 ∧ soI P = nI k) (hsz : ∀ P, P < 8 → ∃ k, k ≤ 40 ∧ szI P = nI k) (hkm : ∀ P, P < 8 → shI P = 2 → ∃ k, 1 ≤ k ∧ k ≤ 5 ∧ kmI P = nI k) (hbm : ∀ P, P < 8 → ∃ k, k < 100 ∧ bmI P = nI k) : XtI l E yX0_day (wsW_ yX0_day cX0_day 3 (some FieldType.int) [(0, 48, 49, 111)]) 15 1 7 [.ref (ad 11), .int x] (xW E ad iv ch rd tp rf (hdI shI aqI) (adn 10) tr (adg 8) (add 7) im ++ (dW E add ivd odd cod wtd tnd gnd ++ (gW E adg ivg grg pag mog sgg tng ++ (tW E adn ivn hrn csn (sK K) ++ (itsW (itF E aqI shI soI szI kmI bmI RI)))))) (fun (r : Int32) (u : (Nat → Int32) × (Nat → Int32) × (Nat → Int32) × (Nat → Int32) × (Option Nat) × Int32 × (Nat → Int32) × (Nat → Int32) × (Nat → Int32) × (Option Nat) × (Option Nat) × Int32 × Int32) => r = gd (noManV shI x) (nI (dayC K csn hrn n st (kdV kmI x) (kdV bmI x)).length) (noManV shI x)) (fun (u : (Nat → Int32) × (Nat → Int32) × (Nat → Int32) × (Nat → Int32) × (Option Nat) × Int32 × (Nat → Int32) × (Nat → Int32) × (Nat → Int32) × (Option Nat) × (Option Nat) × Int32 × Int32) => xW E ad iv ch rd tp (bumpR rf (noManV shI x)) (hdI shI aqI) (adn 10) tr (adg 8) (add 7) im ++ (dW E add (va_up (va_up ivd 5 u.2.2.2.2.2.2.2.2.2.2.2.1) 6 u.2.2.2.2.2.2.2.2.2.2.2.2) u.2.2.2.2.2.2.1 u.2.2.2.2.2.2.2.1 u.2.2.2.2.2.2.2.2.1 u.2.2.2.2.2.2.2.2.2.1 u.2.2.2.2.2.2.2.2.2.2.1 ++ (gW E adg (va_up ivg 5 u.2.2.2.2.2.1) u.2.2.1 u.2.2.2.1 u.1 u.2.1 u.2.2.2.2.1 ++ (tW E adn (va_up (va_up ivn 6 (gd (noManV shI x) (ivn 6 + nI (dayC K csn hrn n st (kdV kmI x) (kdV bmI x)).length) (ivn 6))) 7 (gd (noManV shI x) (ivn 7 + 1) (ivn 7))) hrn csn (sK (gd (noManV shI x) (meetsK n K (dayC K csn hrn n st (kdV kmI x) (kdV bmI x))) K)) ++ (itsW (itF E aqI shI soI szI kmI bmI RI)))))) (fun (_ : String) (_ : Unit) => False) (fun (_ : Unit) (_ : Nat) => []) := by
  refine XtI.ofH (by decide +kernel) (Nat.le_of_ble_eq_true rfl) ?_
  intro pR eR sR mR aR bR tR cR AR ls QR hxR hbR hmlR hts hown hlk hnm hA hK hI hl htab hret hthr
  have hl : lv_has ls 3 [(0, .ref (ad 11)), (1, .int x)] := hl
  refine lv_aload_n hxR hbR dX0_day_0 rfl (lv_at hl 0 rfl) ?_
  refine lv_iload_n hxR hbR dX0_day_1 rfl (lv_at hl 1 rfl) ?_
  refine lv_iconst (v := 1) hxR hbR dX0_day_2 (by decide) ?_
  refine kVRX (n := 2) (As := [.int x, .int 1]) (rest := []) (fun w => w) hxR hbR hmlR hts hown hK hA hl.1 isCtx.id hI (c0_dayBy l E ad iv ch rd tp rf tr im add ivd odd cod wtd tnd gnd adg ivg grg pag mog sgg tng adn ivn hrn csn aqI shI soI szI kmI bmI RI K n st x 1 hlt hn hst (by first | omega | with_reducible assumption) (by first | omega | with_reducible assumption) (by first | omega | with_reducible assumption) (by first | omega | with_reducible assumption) (by first | omega | with_reducible assumption) (by first | omega | with_reducible assumption) (by first | omega | with_reducible assumption) (by first | omega | with_reducible assumption) (by first | omega | with_reducible assumption) (by first | omega | with_reducible assumption)) (lw_V q1224 q1226 qs19 q81 q1227) ⟨rfl, by decide +kernel⟩ 8 0 rfl rfl (he_l xW_o) rfl (Nat.le_of_ble_eq_true rfl) (Nat.le_of_ble_eq_true rfl) ⟨by omega, by omega⟩ (Nat.le_of_ble_eq_true rfl) dX0_day_3 (fun En ce_3 q_3 u H locs hX hI hz hq1 hq2 hq3 => ?_) (fun r_3 u H locs hp hI hz => ?_)
  · skip
    have hI : wI E AR sR H locs (xW E ad iv ch rd tp rf (hdI shI aqI) (adn 10) tr (adg 8) (add 7) im ++ (dW E add ivd odd cod wtd tnd gnd ++ (gW E adg ivg grg pag mog sgg tng ++ (tW E adn ivn hrn csn (sK K) ++ (itsW (itF E aqI shI soI szI kmI bmI RI) ++ ([(q_3, .inr (6, [.null, .null, .null, .null, .null, .int 0, .int (coaV shI 1 x)]))])))))) := hI
    have hI : wI E AR sR _ _ (xW E ad iv ch rd tp rf (hdI shI aqI) (adn 10) tr (adg 8) (add 7) im ++ (dW E add ivd odd cod wtd tnd gnd ++ (gW E adg ivg grg pag mog sgg tng ++ (tW E adn ivn hrn csn (sK K) ++ ([(q_3, .inr (6, [.null, .null, .null, .null, .null, .int 0, .int (coaV shI 1 x)]))] ++ (itsW (itF E aqI shI soI szI kmI bmI RI))))))) := wI_pick ([xW E ad iv ch rd tp rf (hdI shI aqI) (adn 10) tr (adg 8) (add 7) im, dW E add ivd odd cod wtd tnd gnd, gW E adg ivg grg pag mog sgg tng, tW E adn ivn hrn csn (sK K), itsW (itF E aqI shI soI szI kmI bmI RI), [(q_3, .inr (6, [.null, .null, .null, .null, .null, .int 0, .int (coaV shI 1 x)]))]]) [0, 1, 2, 3, 5, 4] 6 rfl (by decide) hI
    have hX : En = "ThreeStrangers$Refused" ∧ ¬ coaV shI 1 x = 0 := hX
    obtain ⟨rfl, hy9_3⟩ := hX
    refine r_catch 0 _ hown hts hK.xw htab rfl (fun z hz => absurd hz List.not_mem_nil) (by decide) (by decide) q410 q436 hq1 hq2 hq3 ?_
    refine W.eq (g2 := F0 mR 49 ls [.ref q_3]) rfl ?_
    refine lv_astore_n (lv' := [(2, .ref q_3), (0, .ref (ad 11)), (1, .int x)]) hxR hbR dX0_day_49 rfl hl (by decide) rfl (fun ls hl => ?_)
    refine lv_aload_n hxR hbR dX0_day_50 rfl (lv_at hl 1 rfl) ?_
    refine lv_aload_n hxR hbR dX0_day_51 rfl (lv_at hl 0 rfl) ?_
    refine r_get hxR hbR hts hown hK hI okX6 (ci := 6) rfl (14 + (4 + (5 + (4 + 0)))) (he_r (Nat.le_of_ble_eq_true rfl) (Nat.le_of_ble_eq_true rfl) (he_r (Nat.le_of_ble_eq_true rfl) (Nat.le_of_ble_eq_true rfl) (he_r (Nat.le_of_ble_eq_true rfl) (Nat.le_of_ble_eq_true rfl) (he_r (Nat.le_of_ble_eq_true rfl) (Nat.le_of_ble_eq_true rfl) (he_l rfl))))) 6 (by decide) q456 rfl (v := .int (coaV shI 1 x)) rfl dX0_day_52 ?_
    refine kVI (n := 1) (As := [.int (coaV shI 1 x)]) (rest := []) (fun w => w ++ (dW E add ivd odd cod wtd tnd gnd ++ (gW E adg ivg grg pag mog sgg tng ++ (tW E adn ivn hrn csn (sK K) ++ ([(q_3, .inr (6, [.null, .null, .null, .null, .null, .int 0, .int (coaV shI 1 x)]))] ++ (itsW (itF E aqI shI soI szI kmI bmI RI))))))) hxR hbR hmlR hts hown hK hA hl.1 (isCtx.suf _) hI (c0_noV l E ad iv ch rd tp rf (hdI shI aqI) (adn 10) tr (adg 8) (add 7) im (coaV shI 1 x) (r5 (coa_r hy9_3))) (lw_V q396 q398 qs2 q81 q399) ⟨rfl, by decide +kernel⟩ 8 0 rfl rfl xW_o rfl (Nat.le_of_ble_eq_true rfl) (Nat.le_of_ble_eq_true rfl) ⟨Nat.le_of_ble_eq_true rfl, Nat.le_of_ble_eq_true rfl⟩ (Nat.le_of_ble_eq_true rfl) dX0_day_55 (fun r_55 u H locs hp hI hz => ?_)
    have hI : wI E AR sR H locs (xW E ad iv ch rd tp (bumpR rf (coaV shI 1 x)) (hdI shI aqI) (adn 10) tr (adg 8) (add 7) im ++ (dW E add ivd odd cod wtd tnd gnd ++ (gW E adg ivg grg pag mog sgg tng ++ (tW E adn ivn hrn csn (sK K) ++ ([(q_3, .inr (6, [.null, .null, .null, .null, .null, .int 0, .int (coaV shI 1 x)]))] ++ (itsW (itF E aqI shI soI szI kmI bmI RI))))))) := hI
    have hp : r_55 = (coaV shI 1 x) := hp
    have hr_55 := hp
    subst hr_55
    have hI : wI E AR sR _ _ ([(q_3, .inr (6, [.null, .null, .null, .null, .null, .int 0, .int (coaV shI 1 x)]))] ++ (xW E ad iv ch rd tp (bumpR rf (coaV shI 1 x)) (hdI shI aqI) (adn 10) tr (adg 8) (add 7) im ++ (dW E add ivd odd cod wtd tnd gnd ++ (gW E adg ivg grg pag mog sgg tng ++ (tW E adn ivn hrn csn (sK K) ++ (itsW (itF E aqI shI soI szI kmI bmI RI))))))) := wI_pick ([xW E ad iv ch rd tp (bumpR rf (coaV shI 1 x)) (hdI shI aqI) (adn 10) tr (adg 8) (add 7) im, dW E add ivd odd cod wtd tnd gnd, gW E adg ivg grg pag mog sgg tng, tW E adn ivn hrn csn (sK K), [(q_3, .inr (6, [.null, .null, .null, .null, .null, .int 0, .int (coaV shI 1 x)]))], itsW (itF E aqI shI soI szI kmI bmI RI)]) [4, 0, 1, 2, 3, 5] 6 rfl (by decide) hI
    have hI := wI_dropL hI
    have hC : noManV shI x = coaV shI 1 x := by
      clear hret hI
      exact (coa_n (by decide)).symm
    have erf : bumpR rf (noManV shI x) = bumpR rf (coaV shI 1 x) := by rw [hC]
    have eivn6 : gd (noManV shI x) (ivn 6 + nI (dayC K csn hrn n st (kdV kmI x) (kdV bmI x)).length) (ivn 6) = ivn 6 := by rw [hC]; first | exact gd_n hy9_3 | (rw [gd_n hy9_3])
    have eivn7 : gd (noManV shI x) (ivn 7 + 1) (ivn 7) = ivn 7 := by rw [hC]; first | exact gd_n hy9_3 | (rw [gd_n hy9_3])
    have eSn : sK (gd (noManV shI x) (meetsK n K (dayC K csn hrn n st (kdV kmI x) (kdV bmI x))) K) = sK K := by rw [hC]; first | exact gd_n hy9_3 | (rw [gd_n hy9_3])
    have hI := wI_w (ws' := xW E ad iv ch rd tp (bumpR rf (noManV shI x)) (hdI shI aqI) (adn 10) tr (adg 8) (add 7) im ++ (dW E add (va_up (va_up ivd 5 (ivd 5)) 6 (ivd 6)) odd cod wtd tnd gnd ++ (gW E adg (va_up ivg 5 (ivg 5)) grg pag mog sgg tng ++ (tW E adn (va_up (va_up ivn 6 (gd (noManV shI x) (ivn 6 + nI (dayC K csn hrn n st (kdV kmI x) (kdV bmI x)).length) (ivn 6))) 7 (gd (noManV shI x) (ivn 7 + 1) (ivn 7))) hrn csn (sK (gd (noManV shI x) (meetsK n K (dayC K csn hrn n st (kdV kmI x) (kdV bmI x))) K)) ++ (itsW (itF E aqI shI soI szI kmI bmI RI)))))) (by rw [erf, eivn6, eivn7, eSn, va_up_id (f := ivd) (k := 5) (v := ivd 5) rfl, va_up_id (f := ivd) (k := 6) (v := ivd 6) rfl, va_up_id (f := ivg) (k := 5) (v := ivg 5) rfl, va_up_id (f := ivn) (k := 6) (v := ivn 6) rfl, va_up_id (f := ivn) (k := 7) (v := ivn 7) rfl]; try rfl) hI
    exact hret (mog, sgg, grg, pag, tng, ivg 5, odd, cod, wtd, tnd, gnd, ivd 5, ivd 6) (coaV shI 1 x) _ _ (0 + 1) (0 + 7) _ _ dX0_day_58 hI (by show (coaV shI 1 x) = gd (noManV shI x) (nI (dayC K csn hrn n st (kdV kmI x) (kdV bmI x)).length) (noManV shI x); rw [hC]; exact (gd_n hy9_3).symm) (Nat.le_of_ble_eq_true rfl) (Nat.le_of_ble_eq_true rfl) rfl
  · skip
    obtain ⟨mo2_3, sg2_3, gr2_3, pa2_3, tn2_3, c5_3, od2_3, co2_3, wt2_3⟩ := u
    have hI : wI E AR sR H locs (xW E ad iv ch rd tp rf (hdI shI aqI) (adn 10) tr (adg 8) (add 7) im ++ (dW E add (va_up (va_up ivd 5 (nI ((dayC K csn hrn n st (kdV kmI x) (kdV bmI x)).length))) 6 (nI (dayY K csn hrn n st (kdV kmI x) (kdV bmI x)))) od2_3 co2_3 wt2_3 (some (adn 10)) (some (adg 8)) ++ (gW E adg (va_up ivg 5 c5_3) gr2_3 pa2_3 mo2_3 sg2_3 tn2_3 ++ (tW E adn ivn hrn csn (sK K) ++ (itsW (itF E aqI shI soI szI kmI bmI RI)))))) := hI
    have hp : r_3 = add 7 ∧ (∀ i, i < (dayC K csn hrn n st (kdV kmI x) (kdV bmI x)).length → co2_3 i = nI ((dayC K csn hrn n st (kdV kmI x) (kdV bmI x)).getD i 0)) ∧ (∀ p, p < n → wt2_3 p = dayW K csn hrn n st (kdV kmI x) (kdV bmI x) p) ∧ coaV shI 1 x = 0 := hp
    obtain ⟨rfl, hco2_3, hwt2_3, hy0_3⟩ := hp
    have h7 := dayC_7 (K := K) (cost := csn) (hour := hrn) (n := n) (st := st) (kd := kdV kmI x) (a := kdV bmI x) hn7 hh
    refine lv_astore_n (lv' := [(2, .ref (add 7)), (0, .ref (ad 11)), (1, .int x)]) hxR hbR dX0_day_6 rfl hl (by decide) rfl (fun ls hl => ?_)
    refine lv_aload_n hxR hbR dX0_day_7 rfl (lv_at hl 0 rfl) ?_
    refine lv_aload_n hxR hbR dX0_day_8 rfl (lv_at hl 1 rfl) ?_
    refine r_get hxR hbR hts hown hK hI okX0 (ci := 0) rfl 8 (he_l xW_o) 0 (by decide) q263 rfl (v := .ref (adn 10)) rfl dX0_day_9 ?_
    have hI : wI E AR sR _ _ (dW E add (va_up (va_up ivd 5 (nI ((dayC K csn hrn n st (kdV kmI x) (kdV bmI x)).length))) 6 (nI (dayY K csn hrn n st (kdV kmI x) (kdV bmI x)))) od2_3 co2_3 wt2_3 (some (adn 10)) (some (adg 8)) ++ (tW E adn ivn hrn csn (sK K) ++ (xW E ad iv ch rd tp rf (hdI shI aqI) (adn 10) tr (adg 8) (add 7) im ++ (gW E adg (va_up ivg 5 c5_3) gr2_3 pa2_3 mo2_3 sg2_3 tn2_3 ++ (itsW (itF E aqI shI soI szI kmI bmI RI)))))) := wI_pick ([xW E ad iv ch rd tp rf (hdI shI aqI) (adn 10) tr (adg 8) (add 7) im, dW E add (va_up (va_up ivd 5 (nI ((dayC K csn hrn n st (kdV kmI x) (kdV bmI x)).length))) 6 (nI (dayY K csn hrn n st (kdV kmI x) (kdV bmI x)))) od2_3 co2_3 wt2_3 (some (adn 10)) (some (adg 8)), gW E adg (va_up ivg 5 c5_3) gr2_3 pa2_3 mo2_3 sg2_3 tn2_3, tW E adn ivn hrn csn (sK K), itsW (itF E aqI shI soI szI kmI bmI RI)]) [1, 3, 0, 2, 4] 5 rfl (by decide) hI
    have hI := wI_w app2 hI
    refine kVV (n := 1) (As := [.ref (adn 10)]) (rest := []) (fun w => w ++ (xW E ad iv ch rd tp rf (hdI shI aqI) (adn 10) tr (adg 8) (add 7) im ++ (gW E adg (va_up ivg 5 c5_3) gr2_3 pa2_3 mo2_3 sg2_3 tn2_3 ++ (itsW (itF E aqI shI soI szI kmI bmI RI))))) hxR hbR hmlR hts hown hK hA hl.1 (isCtx.suf _) hI (c3_meets l E add (va_up (va_up ivd 5 (nI ((dayC K csn hrn n st (kdV kmI x) (kdV bmI x)).length))) 6 (nI (dayY K csn hrn n st (kdV kmI x) (kdV bmI x)))) od2_3 co2_3 wt2_3 (some (adn 10)) (some (adg 8)) adn ivn hrn csn K (dayC K csn hrn n st (kdV kmI x) (kdV bmI x)) n (up_n (by decide) va_up_s) hn (by first | omega | with_reducible assumption) h7 (fun i hi => ⟨Nat.lt_trans (dayC_256 hn7 hh _ (getD_mem hi)) (by decide), hco2_3 i hi⟩)) (lw_V q1289 q1290 q1291 q84 q1292) ⟨rfl, by decide +kernel⟩ 0 3 rfl rfl (he_l dW_o) rfl (Nat.le_of_ble_eq_true rfl) (Nat.le_of_ble_eq_true rfl) ⟨Nat.le_of_ble_eq_true rfl, Nat.le_of_ble_eq_true rfl⟩ (Nat.le_of_ble_eq_true rfl) dX0_day_12 (fun u H locs hp hI hz => ?_)
    have hI := wI_w app2.symm hI
    have hI : wI E AR sR H locs (dW E add (va_up (va_up ivd 5 (nI ((dayC K csn hrn n st (kdV kmI x) (kdV bmI x)).length))) 6 (nI (dayY K csn hrn n st (kdV kmI x) (kdV bmI x)))) od2_3 co2_3 wt2_3 (some (adn 10)) (some (adg 8)) ++ (tW E adn ivn hrn csn (sK (meetsK n K (dayC K csn hrn n st (kdV kmI x) (kdV bmI x)))) ++ (xW E ad iv ch rd tp rf (hdI shI aqI) (adn 10) tr (adg 8) (add 7) im ++ (gW E adg (va_up ivg 5 c5_3) gr2_3 pa2_3 mo2_3 sg2_3 tn2_3 ++ (itsW (itF E aqI shI soI szI kmI bmI RI)))))) := hI
    have hI : wI E AR sR _ _ (xW E ad iv ch rd tp rf (hdI shI aqI) (adn 10) tr (adg 8) (add 7) im ++ (dW E add (va_up (va_up ivd 5 (nI ((dayC K csn hrn n st (kdV kmI x) (kdV bmI x)).length))) 6 (nI (dayY K csn hrn n st (kdV kmI x) (kdV bmI x)))) od2_3 co2_3 wt2_3 (some (adn 10)) (some (adg 8)) ++ (gW E adg (va_up ivg 5 c5_3) gr2_3 pa2_3 mo2_3 sg2_3 tn2_3 ++ (tW E adn ivn hrn csn (sK (meetsK n K (dayC K csn hrn n st (kdV kmI x) (kdV bmI x)))) ++ (itsW (itF E aqI shI soI szI kmI bmI RI)))))) := wI_pick ([dW E add (va_up (va_up ivd 5 (nI ((dayC K csn hrn n st (kdV kmI x) (kdV bmI x)).length))) 6 (nI (dayY K csn hrn n st (kdV kmI x) (kdV bmI x)))) od2_3 co2_3 wt2_3 (some (adn 10)) (some (adg 8)), tW E adn ivn hrn csn (sK (meetsK n K (dayC K csn hrn n st (kdV kmI x) (kdV bmI x)))), xW E ad iv ch rd tp rf (hdI shI aqI) (adn 10) tr (adg 8) (add 7) im, gW E adg (va_up ivg 5 c5_3) gr2_3 pa2_3 mo2_3 sg2_3 tn2_3, itsW (itF E aqI shI soI szI kmI bmI RI)]) [2, 0, 3, 1, 4] 5 rfl (by decide) hI
    refine lv_aload_n hxR hbR dX0_day_15 rfl (lv_at hl 1 rfl) ?_
    refine r_get hxR hbR hts hown hK hI okX0 (ci := 0) rfl 8 (he_l xW_o) 0 (by decide) q263 rfl (v := .ref (adn 10)) rfl dX0_day_16 ?_
    refine lv_dup hxR hbR dX0_day_19 rfl ?_
    refine r_get hxR hbR hts hown hK hI okX1 (ci := 1) rfl (14 + (4 + (5 + 0))) (he_r (Nat.le_of_ble_eq_true rfl) (Nat.le_of_ble_eq_true rfl) (he_r (Nat.le_of_ble_eq_true rfl) (Nat.le_of_ble_eq_true rfl) (he_r (Nat.le_of_ble_eq_true rfl) (Nat.le_of_ble_eq_true rfl) (he_l tW_o)))) 6 (by decide) q153 rfl (v := .int (ivn 6)) (al rfl) dX0_day_20 ?_
    refine lv_aload_n hxR hbR dX0_day_23 rfl (lv_at hl 0 rfl) ?_
    refine r_get hxR hbR hts hown hK hI okX3 (ci := 3) rfl (14 + 0) (he_r (Nat.le_of_ble_eq_true rfl) (Nat.le_of_ble_eq_true rfl) (he_l dW_o)) 5 (by decide) q233 rfl (v := .int (nI ((dayC K csn hrn n st (kdV kmI x) (kdV bmI x)).length))) (al (up_n (by decide) va_up_s)) dX0_day_24 ?_
    refine lv_iadd hxR hbR dX0_day_27 ?_
    refine r_put (v := .int ((ivn 6) + (nI ((dayC K csn hrn n st (kdV kmI x) (kdV bmI x)).length)))) (ws1 := xW E ad iv ch rd tp rf (hdI shI aqI) (adn 10) tr (adg 8) (add 7) im ++ (dW E add (va_up (va_up ivd 5 (nI ((dayC K csn hrn n st (kdV kmI x) (kdV bmI x)).length))) 6 (nI (dayY K csn hrn n st (kdV kmI x) (kdV bmI x)))) od2_3 co2_3 wt2_3 (some (adn 10)) (some (adg 8)) ++ (gW E adg (va_up ivg 5 c5_3) gr2_3 pa2_3 mo2_3 sg2_3 tn2_3 ++ (tW E adn (va_up ivn 6 ((ivn 6) + (nI ((dayC K csn hrn n st (kdV kmI x) (kdV bmI x)).length)))) hrn csn (sK (meetsK n K (dayC K csn hrn n st (kdV kmI x) (kdV bmI x)))) ++ (itsW (itF E aqI shI soI szI kmI bmI RI)))))) hxR hbR hts hown hK hI okX1 (ci := 1) rfl (14 + (4 + (5 + 0))) (he_r (Nat.le_of_ble_eq_true rfl) (Nat.le_of_ble_eq_true rfl) (he_r (Nat.le_of_ble_eq_true rfl) (Nat.le_of_ble_eq_true rfl) (he_r (Nat.le_of_ble_eq_true rfl) (Nat.le_of_ble_eq_true rfl) (he_l tW_o)))) 6 (by decide) q153 rfl rfl rfl rfl (Nat.le_of_ble_eq_true rfl) (hw_r (Nat.le_of_ble_eq_true rfl) (Nat.le_of_ble_eq_true rfl) (hw_r (Nat.le_of_ble_eq_true rfl) (Nat.le_of_ble_eq_true rfl) (hw_r (Nat.le_of_ble_eq_true rfl) (Nat.le_of_ble_eq_true rfl) (hw_l (Nat.le_of_ble_eq_true rfl) tW_i6)))) dX0_day_28 (fun H locs hI => ?_)
    refine lv_aload_n hxR hbR dX0_day_31 rfl (lv_at hl 1 rfl) ?_
    refine r_get hxR hbR hts hown hK hI okX0 (ci := 0) rfl 8 (he_l xW_o) 0 (by decide) q263 rfl (v := .ref (adn 10)) rfl dX0_day_32 ?_
    refine lv_dup hxR hbR dX0_day_35 rfl ?_
    refine r_get hxR hbR hts hown hK hI okX1 (ci := 1) rfl (14 + (4 + (5 + 0))) (he_r (Nat.le_of_ble_eq_true rfl) (Nat.le_of_ble_eq_true rfl) (he_r (Nat.le_of_ble_eq_true rfl) (Nat.le_of_ble_eq_true rfl) (he_r (Nat.le_of_ble_eq_true rfl) (Nat.le_of_ble_eq_true rfl) (he_l tW_o)))) 7 (by decide) q155 rfl (v := .int (ivn 7)) (al (up_n (by decide) rfl)) dX0_day_36 ?_
    refine lv_iconst (v := 1) hxR hbR dX0_day_39 (by decide) ?_
    refine lv_iadd hxR hbR dX0_day_40 ?_
    refine r_put (v := .int ((ivn 7) + 1)) (ws1 := xW E ad iv ch rd tp rf (hdI shI aqI) (adn 10) tr (adg 8) (add 7) im ++ (dW E add (va_up (va_up ivd 5 (nI ((dayC K csn hrn n st (kdV kmI x) (kdV bmI x)).length))) 6 (nI (dayY K csn hrn n st (kdV kmI x) (kdV bmI x)))) od2_3 co2_3 wt2_3 (some (adn 10)) (some (adg 8)) ++ (gW E adg (va_up ivg 5 c5_3) gr2_3 pa2_3 mo2_3 sg2_3 tn2_3 ++ (tW E adn (va_up (va_up ivn 6 ((ivn 6) + (nI ((dayC K csn hrn n st (kdV kmI x) (kdV bmI x)).length)))) 7 ((ivn 7) + 1)) hrn csn (sK (meetsK n K (dayC K csn hrn n st (kdV kmI x) (kdV bmI x)))) ++ (itsW (itF E aqI shI soI szI kmI bmI RI)))))) hxR hbR hts hown hK hI okX1 (ci := 1) rfl (14 + (4 + (5 + 0))) (he_r (Nat.le_of_ble_eq_true rfl) (Nat.le_of_ble_eq_true rfl) (he_r (Nat.le_of_ble_eq_true rfl) (Nat.le_of_ble_eq_true rfl) (he_r (Nat.le_of_ble_eq_true rfl) (Nat.le_of_ble_eq_true rfl) (he_l tW_o)))) 7 (by decide) q155 rfl rfl rfl rfl (Nat.le_of_ble_eq_true rfl) (hw_r (Nat.le_of_ble_eq_true rfl) (Nat.le_of_ble_eq_true rfl) (hw_r (Nat.le_of_ble_eq_true rfl) (Nat.le_of_ble_eq_true rfl) (hw_r (Nat.le_of_ble_eq_true rfl) (Nat.le_of_ble_eq_true rfl) (hw_l (Nat.le_of_ble_eq_true rfl) tW_i7)))) dX0_day_41 (fun H locs hI => ?_)
    refine lv_aload_n hxR hbR dX0_day_44 rfl (lv_at hl 0 rfl) ?_
    refine r_get hxR hbR hts hown hK hI okX3 (ci := 3) rfl (14 + 0) (he_r (Nat.le_of_ble_eq_true rfl) (Nat.le_of_ble_eq_true rfl) (he_l dW_o)) 5 (by decide) q233 rfl (v := .int (nI ((dayC K csn hrn n st (kdV kmI x) (kdV bmI x)).length))) (al (up_n (by decide) va_up_s)) dX0_day_45 ?_
    have hC : noManV shI x = 0 := by
      clear hret hI
      exact (coa_n (by decide)).symm.trans hy0_3
    have erf : bumpR rf (noManV shI x) = rf := by rw [hC]; exact bump_0 _
    have eivn6 : gd (noManV shI x) (ivn 6 + nI (dayC K csn hrn n st (kdV kmI x) (kdV bmI x)).length) (ivn 6) = (ivn 6) + (nI ((dayC K csn hrn n st (kdV kmI x) (kdV bmI x)).length)) := by rw [hC]; first | rfl | (simp only [gd_0]; split <;> first | rfl | contradiction) | (exfalso; omega)
    have eivn7 : gd (noManV shI x) (ivn 7 + 1) (ivn 7) = (ivn 7) + 1 := by rw [hC]; first | rfl | (simp only [gd_0]; split <;> first | rfl | contradiction) | (exfalso; omega)
    have eSn : sK (gd (noManV shI x) (meetsK n K (dayC K csn hrn n st (kdV kmI x) (kdV bmI x))) K) = sK (meetsK n K (dayC K csn hrn n st (kdV kmI x) (kdV bmI x))) := by rw [hC]; first | rfl | (simp only [gd_0]; split <;> first | rfl | contradiction) | (exfalso; omega)
    have hI := wI_w (ws' := xW E ad iv ch rd tp (bumpR rf (noManV shI x)) (hdI shI aqI) (adn 10) tr (adg 8) (add 7) im ++ (dW E add (va_up (va_up ivd 5 (nI ((dayC K csn hrn n st (kdV kmI x) (kdV bmI x)).length))) 6 (nI (dayY K csn hrn n st (kdV kmI x) (kdV bmI x)))) od2_3 co2_3 wt2_3 (some (adn 10)) (some (adg 8)) ++ (gW E adg (va_up ivg 5 c5_3) gr2_3 pa2_3 mo2_3 sg2_3 tn2_3 ++ (tW E adn (va_up (va_up ivn 6 (gd (noManV shI x) (ivn 6 + nI (dayC K csn hrn n st (kdV kmI x) (kdV bmI x)).length) (ivn 6))) 7 (gd (noManV shI x) (ivn 7 + 1) (ivn 7))) hrn csn (sK (gd (noManV shI x) (meetsK n K (dayC K csn hrn n st (kdV kmI x) (kdV bmI x))) K)) ++ (itsW (itF E aqI shI soI szI kmI bmI RI)))))) (by rw [erf, eivn6, eivn7, eSn]; try rfl) hI
    exact hret (mo2_3, sg2_3, gr2_3, pa2_3, tn2_3, c5_3, od2_3, co2_3, wt2_3, some (adn 10), some (adg 8), nI ((dayC K csn hrn n st (kdV kmI x) (kdV bmI x)).length), nI (dayY K csn hrn n st (kdV kmI x) (kdV bmI x))) (nI ((dayC K csn hrn n st (kdV kmI x) (kdV bmI x)).length)) _ _ (0 + 1) (0 + 7) _ _ dX0_day_48 hI (by show (nI ((dayC K csn hrn n st (kdV kmI x) (kdV bmI x)).length)) = gd (noManV shI x) (nI (dayC K csn hrn n st (kdV kmI x) (kdV bmI x)).length) (noManV shI x); rw [hC]; first | rfl | (simp only [gd_0]; split <;> first | rfl | contradiction)) (Nat.le_of_ble_eq_true rfl) (Nat.le_of_ble_eq_true rfl) rfl

theorem c0_sends (l : Launch) (E : En) (ad : Nat → Nat) (iv : Nat → Int32) (ch : Nat → Int32) (rd : Nat → Int32) (tp : Nat → Int32) (rf : Nat → Int32) (tr : Nat) (dy : Nat) (im : Option Nat) (adg : Nat → Nat) (ivg : Nat → Int32) (grg : Nat → Int32) (pag : Nat → Int32) (mog : Nat → Int32) (sgg : Nat → Int32) (tng : Option Nat) (adn : Nat → Nat) (ivn : Nat → Int32) (hrn : Nat → Int32) (csn : Nat → Int32) (aqI : Nat → Nat) (shI : Nat → Int32) (soI : Nat → Int32) (szI : Nat → Int32) (kmI : Nat → Int32) (bmI : Nat → Int32) (RI : Nat → Nat → Int64) (K : Nat → Nat → Int32) (n st : Nat) (x y t : Int32) (hlt : l.stackTraces = false) (hn : ivn 3 = nI n) (hst : ivn 4 = nI st) (hn7 : n ≤ 7) (hs2 : 2 ≤ st) (hs4 : st ≤ 4) (hsym : kSym K n) (hsh : ∀ P, P < 8 → shI P = 0 ∨ shI P = 1 ∨ shI P = 2) (hso : ∀ P, P < 8 → ∃ k, k ≤ 4 ∧ soI P = nI k) (hsz : ∀ P, P < 8 → ∃ k, k ≤ 40 ∧ szI P = nI k) (hkm : ∀ P, P < 8 → shI P = 2 → ∃ k, 1 ≤ k ∧ k ≤ 5 ∧ kmI P = nI k) (hbm : ∀ P, P < 8 → ∃ k, k < 100 ∧ bmI P = nI k) : XtI l E yX0_sends (wsW_ yX0_sends cX0_sends 5 (some FieldType.int) [(0, 44, 45, 111)]) 15 1 7 [.ref (ad 11), .int x, .int y, .int t] (xW E ad iv ch rd tp rf (hdI shI aqI) (adn 10) tr (adg 8) dy im ++ (gW E adg ivg grg pag mog sgg tng ++ (tW E adn ivn hrn csn (sK K) ++ (itsW (itF E aqI shI soI szI kmI bmI RI))))) (fun (r : Int32) (u : (Nat → Int32) × (Nat → Int32) × (Nat → Int32) × (Nat → Int32) × (Option Nat) × Int32) => r = gd (sendsC n shI x y t) (nI (sentV K csn n st (kdV kmI x) (kdV bmI x) y.toNatClampNeg t.toNatClampNeg)) (sendsC n shI x y t)) (fun (u : (Nat → Int32) × (Nat → Int32) × (Nat → Int32) × (Nat → Int32) × (Option Nat) × Int32) => xW E ad iv ch rd tp (bumpR rf (sendsC n shI x y t)) (hdI shI aqI) (adn 10) tr (adg 8) dy im ++ (gW E adg (va_up ivg 5 u.2.2.2.2.2) u.2.2.1 u.2.2.2.1 u.1 u.2.1 u.2.2.2.2.1 ++ (tW E adn ivn hrn csn (sK K) ++ (itsW (itF E aqI shI soI szI kmI bmI RI))))) (fun (_ : String) (_ : Unit) => False) (fun (_ : Unit) (_ : Nat) => []) := by
  have h28 : 2 ^ n ≤ 2 ^ 7 := Nat.pow_le_pow_right (by decide) hn7
  refine XtI.ofH (by decide +kernel) (Nat.le_of_ble_eq_true rfl) ?_
  intro pR eR sR mR aR bR tR cR AR ls QR hxR hbR hmlR hts hown hlk hnm hA hK hI hl htab hret hthr
  have hl : lv_has ls 5 [(0, .ref (ad 11)), (1, .int x), (2, .int y), (3, .int t)] := hl
  refine lv_aload_n hxR hbR dX0_sends_0 rfl (lv_at hl 0 rfl) ?_
  refine r_get hxR hbR hts hown hK hI okX0 (ci := 0) rfl 8 (he_l xW_o) 0 (by decide) q263 rfl (v := .ref (adn 10)) rfl dX0_sends_1 ?_
  refine lv_iload_n hxR hbR dX0_sends_4 rfl (lv_at hl 2 rfl) ?_
  have hI := wI_w app2 hI
  refine kVI (n := 1) (As := [.int y]) (rest := []) (fun w => (xW E ad iv ch rd tp rf (hdI shI aqI) (adn 10) tr (adg 8) dy im ++ (gW E adg ivg grg pag mog sgg tng)) ++ (w ++ (itsW (itF E aqI shI soI szI kmI bmI RI)))) hxR hbR hmlR hts hown hK hA hl.1 (isCtx.mk _ _) hI (c1_isSet l E adn ivn hrn csn K n y hn (by omega)) (lw_V q1168 q1169 q1170 q82 q1171) ⟨rfl, by decide +kernel⟩ 0 1 rfl rfl tW_o rfl (Nat.le_of_ble_eq_true rfl) (Nat.le_of_ble_eq_true rfl) ⟨Nat.le_of_ble_eq_true rfl, Nat.le_of_ble_eq_true rfl⟩ (Nat.le_of_ble_eq_true rfl) dX0_sends_5 (fun r_5 u H locs hp hI hz => ?_)
  have hI := wI_w app2.symm hI
  have hI : wI E AR sR H locs (xW E ad iv ch rd tp rf (hdI shI aqI) (adn 10) tr (adg 8) dy im ++ (gW E adg ivg grg pag mog sgg tng ++ (tW E adn ivn hrn csn (sK K) ++ (itsW (itF E aqI shI soI szI kmI bmI RI))))) := hI
  have hp : r_5 = b2i (decide (0 ≤ y.toInt ∧ y.toInt < ((2 ^ n : Nat) : Int))) := hp
  have hr_5 := hp
  rcases b2i_cases hr_5 with ⟨c_5, rfl⟩ | ⟨c_5, rfl⟩
  · skip
    have c_5 : 0 ≤ Int32.toInt y ∧ Int32.toInt y < ((2 ^ n : Nat) : Int) := of_decide_eq_true c_5
    obtain ⟨Y, hY, rfl⟩ := nat_of c_5 (by omega)
    have tY : (nI Y).toInt = (Y : Int) := nI_toInt (by omega)
    refine lv_if_eq (tgt := 25) hxR hbR dX0_sends_8 (by decide) (fun c => absurd c (by decide)) (fun _ => ?_)
    refine lv_iload_n hxR hbR dX0_sends_11 rfl (lv_at hl 3 rfl) ?_
    refine lv_iconst (v := 0) hxR hbR dX0_sends_12 (by decide) ?_
    refine lv_bipush (v := 7) hxR hbR dX0_sends_13 (by decide) ?_
    refine kSI (n := 3) (As := [.int t, .int 0, .int 7]) (rest := []) (fun w => w ++ (xW E ad iv ch rd tp rf (hdI shI aqI) (adn 10) tr (adg 8) dy im ++ (gW E adg ivg grg pag mog sgg tng ++ (tW E adn ivn hrn csn (sK K) ++ (itsW (itF E aqI shI soI szI kmI bmI RI)))))) hxR hbR hmlR hts hown hK hA hl.1 (isCtx.suf _) hI (c0_isIn l E  t 0 7 ) (lw_S q393 q394 q81 q395) (by decide +kernel) rfl (Nat.le_of_ble_eq_true rfl) (Nat.le_of_ble_eq_true rfl) ⟨Nat.le_of_ble_eq_true rfl, Nat.le_of_ble_eq_true rfl⟩ (Nat.le_of_ble_eq_true rfl) dX0_sends_15 (fun r_15 u H locs hp hI hz => ?_)
    have hI : wI E AR sR H locs (xW E ad iv ch rd tp rf (hdI shI aqI) (adn 10) tr (adg 8) dy im ++ (gW E adg ivg grg pag mog sgg tng ++ (tW E adn ivn hrn csn (sK K) ++ (itsW (itF E aqI shI soI szI kmI bmI RI))))) := hI
    have hp : r_15 = b2i (decide (Int32.toInt 0 ≤ Int32.toInt t ∧ Int32.toInt t ≤ Int32.toInt 7)) := hp
    have hr_15 := hp
    rcases b2i_cases hr_15 with ⟨c_15, rfl⟩ | ⟨c_15, rfl⟩
    · skip
      have c_15 : Int32.toInt 0 ≤ Int32.toInt t ∧ Int32.toInt t ≤ Int32.toInt 7 := of_decide_eq_true c_15
      have c_15 : 0 ≤ t.toInt ∧ t.toInt ≤ 7 := by exact c_15
      obtain ⟨tc, htc, rfl⟩ := nat_le_of (m := 7) c_15.1 c_15.2
      have ttc : (nI tc).toInt = (tc : Int) := nI_toInt (by omega)
      refine lv_if_eq (tgt := 25) hxR hbR dX0_sends_18 (by decide) (fun c => absurd c (by decide)) (fun _ => ?_)
      refine lv_iconst (v := 1) hxR hbR dX0_sends_21 (by decide) ?_
      refine lv_goto (tgt := 26) hxR hbR dX0_sends_22 (by decide) ?_
      refine lv_istore (lv' := [(4, .int 1), (0, .ref (ad 11)), (1, .int x), (2, .int (nI Y)), (3, .int (nI tc))]) hxR hbR dX0_sends_26 hl (by decide) rfl (fun ls hl => ?_)
      refine lv_aload_n hxR hbR dX0_sends_28 rfl (lv_at hl 1 rfl) ?_
      refine lv_iload hxR hbR dX0_sends_29 (lv_at hl 0 rfl) ?_
      refine lv_iload_n hxR hbR dX0_sends_31 rfl (lv_at hl 2 rfl) ?_
      have hI : wI E AR sR _ _ (xW E ad iv ch rd tp rf (hdI shI aqI) (adn 10) tr (adg 8) dy im ++ (itsW (itF E aqI shI soI szI kmI bmI RI) ++ (gW E adg ivg grg pag mog sgg tng ++ (tW E adn ivn hrn csn (sK K))))) := wI_pick ([xW E ad iv ch rd tp rf (hdI shI aqI) (adn 10) tr (adg 8) dy im, gW E adg ivg grg pag mog sgg tng, tW E adn ivn hrn csn (sK K), itsW (itF E aqI shI soI szI kmI bmI RI)]) [0, 3, 1, 2] 4 rfl (by decide) hI
      have hI := wI_w app2 hI
      refine kVRX (n := 2) (As := [.int 1, .int x]) (rest := []) (fun w => w ++ (gW E adg ivg grg pag mog sgg tng ++ (tW E adn ivn hrn csn (sK K)))) hxR hbR hmlR hts hown hK hA hl.1 (isCtx.suf _) hI (c0_coachmanIn l E ad iv ch rd tp rf (adn 10) tr (adg 8) dy im aqI shI soI szI kmI bmI RI 1 x hlt (by first | omega | with_reducible assumption) (by first | omega | with_reducible assumption) (by first | omega | with_reducible assumption) (by first | omega | with_reducible assumption) (by first | omega | with_reducible assumption)) (lw_V q1207 q1209 qs18 q81 q1210) ⟨rfl, by decide +kernel⟩ 8 0 rfl rfl (he_l xW_o) rfl (Nat.le_of_ble_eq_true rfl) (Nat.le_of_ble_eq_true rfl) ⟨by omega, by omega⟩ (Nat.le_of_ble_eq_true rfl) dX0_sends_32 (fun En ce_32 q_32 u H locs hX hI hz hq1 hq2 hq3 => ?_) (fun r_32 u H locs hp hI hz => ?_)
      · skip
        have hI := wI_w app3.symm hI
        have hI : wI E AR sR H locs (xW E ad iv ch rd tp rf (hdI shI aqI) (adn 10) tr (adg 8) dy im ++ (itsW (itF E aqI shI soI szI kmI bmI RI) ++ ([(q_32, .inr (6, [.null, .null, .null, .null, .null, .int 0, .int (coaV shI 1 x)]))] ++ (gW E adg ivg grg pag mog sgg tng ++ (tW E adn ivn hrn csn (sK K)))))) := hI
        have hI : wI E AR sR _ _ (xW E ad iv ch rd tp rf (hdI shI aqI) (adn 10) tr (adg 8) dy im ++ (gW E adg ivg grg pag mog sgg tng ++ (tW E adn ivn hrn csn (sK K) ++ ([(q_32, .inr (6, [.null, .null, .null, .null, .null, .int 0, .int (coaV shI 1 x)]))] ++ (itsW (itF E aqI shI soI szI kmI bmI RI)))))) := wI_pick ([xW E ad iv ch rd tp rf (hdI shI aqI) (adn 10) tr (adg 8) dy im, itsW (itF E aqI shI soI szI kmI bmI RI), [(q_32, .inr (6, [.null, .null, .null, .null, .null, .int 0, .int (coaV shI 1 x)]))], gW E adg ivg grg pag mog sgg tng, tW E adn ivn hrn csn (sK K)]) [0, 3, 4, 2, 1] 5 rfl (by decide) hI
        have hX : En = "ThreeStrangers$Refused" ∧ ¬ coaV shI 1 x = 0 := hX
        obtain ⟨rfl, hy9_32⟩ := hX
        refine r_catch 0 _ hown hts hK.xw htab rfl (fun z hz => absurd hz List.not_mem_nil) (by decide) (by decide) q410 q436 hq1 hq2 hq3 ?_
        refine W.eq (g2 := F0 mR 45 ls [.ref q_32]) rfl ?_
        refine lv_astore (lv' := [(4, .ref q_32), (0, .ref (ad 11)), (1, .int x), (2, .int (nI Y)), (3, .int (nI tc))]) hxR hbR dX0_sends_45 hl (by decide) rfl (fun ls hl => ?_)
        refine lv_aload_n hxR hbR dX0_sends_47 rfl (lv_at hl 1 rfl) ?_
        refine lv_aload hxR hbR dX0_sends_48 (lv_at hl 0 rfl) ?_
        refine r_get hxR hbR hts hown hK hI okX6 (ci := 6) rfl (14 + (5 + (4 + 0))) (he_r (Nat.le_of_ble_eq_true rfl) (Nat.le_of_ble_eq_true rfl) (he_r (Nat.le_of_ble_eq_true rfl) (Nat.le_of_ble_eq_true rfl) (he_r (Nat.le_of_ble_eq_true rfl) (Nat.le_of_ble_eq_true rfl) (he_l rfl)))) 6 (by decide) q456 rfl (v := .int (coaV shI 1 x)) rfl dX0_sends_50 ?_
        refine kVI (n := 1) (As := [.int (coaV shI 1 x)]) (rest := []) (fun w => w ++ (gW E adg ivg grg pag mog sgg tng ++ (tW E adn ivn hrn csn (sK K) ++ ([(q_32, .inr (6, [.null, .null, .null, .null, .null, .int 0, .int (coaV shI 1 x)]))] ++ (itsW (itF E aqI shI soI szI kmI bmI RI)))))) hxR hbR hmlR hts hown hK hA hl.1 (isCtx.suf _) hI (c0_noV l E ad iv ch rd tp rf (hdI shI aqI) (adn 10) tr (adg 8) dy im (coaV shI 1 x) (r5 (coa_r hy9_32))) (lw_V q396 q398 qs2 q81 q399) ⟨rfl, by decide +kernel⟩ 8 0 rfl rfl xW_o rfl (Nat.le_of_ble_eq_true rfl) (Nat.le_of_ble_eq_true rfl) ⟨Nat.le_of_ble_eq_true rfl, Nat.le_of_ble_eq_true rfl⟩ (Nat.le_of_ble_eq_true rfl) dX0_sends_53 (fun r_53 u H locs hp hI hz => ?_)
        have hI : wI E AR sR H locs (xW E ad iv ch rd tp (bumpR rf (coaV shI 1 x)) (hdI shI aqI) (adn 10) tr (adg 8) dy im ++ (gW E adg ivg grg pag mog sgg tng ++ (tW E adn ivn hrn csn (sK K) ++ ([(q_32, .inr (6, [.null, .null, .null, .null, .null, .int 0, .int (coaV shI 1 x)]))] ++ (itsW (itF E aqI shI soI szI kmI bmI RI)))))) := hI
        have hp : r_53 = (coaV shI 1 x) := hp
        have hr_53 := hp
        subst hr_53
        have hI : wI E AR sR _ _ ([(q_32, .inr (6, [.null, .null, .null, .null, .null, .int 0, .int (coaV shI 1 x)]))] ++ (xW E ad iv ch rd tp (bumpR rf (coaV shI 1 x)) (hdI shI aqI) (adn 10) tr (adg 8) dy im ++ (gW E adg ivg grg pag mog sgg tng ++ (tW E adn ivn hrn csn (sK K) ++ (itsW (itF E aqI shI soI szI kmI bmI RI)))))) := wI_pick ([xW E ad iv ch rd tp (bumpR rf (coaV shI 1 x)) (hdI shI aqI) (adn 10) tr (adg 8) dy im, gW E adg ivg grg pag mog sgg tng, tW E adn ivn hrn csn (sK K), [(q_32, .inr (6, [.null, .null, .null, .null, .null, .int 0, .int (coaV shI 1 x)]))], itsW (itF E aqI shI soI szI kmI bmI RI)]) [3, 0, 1, 2, 4] 5 rfl (by decide) hI
        have hI := wI_dropL hI
        have hC : sendsC n shI x (nI Y) (nI tc) = coaV shI 1 x := by
          clear hret hI
          exact (sendsC_y (by omega) (by omega)).trans (coa_n (by decide)).symm
        have erf : bumpR rf (sendsC n shI x (nI Y) (nI tc)) = bumpR rf (coaV shI 1 x) := by rw [hC]
        have hI := wI_w (ws' := xW E ad iv ch rd tp (bumpR rf (sendsC n shI x (nI Y) (nI tc))) (hdI shI aqI) (adn 10) tr (adg 8) dy im ++ (gW E adg (va_up ivg 5 (ivg 5)) grg pag mog sgg tng ++ (tW E adn ivn hrn csn (sK K) ++ (itsW (itF E aqI shI soI szI kmI bmI RI))))) (by rw [erf, va_up_id (f := ivg) (k := 5) (v := ivg 5) rfl]; try rfl) hI
        exact hret (mog, sgg, grg, pag, tng, ivg 5) (coaV shI 1 x) _ _ (0 + 1) (0 + 7) _ _ dX0_sends_56 hI (by show (coaV shI 1 x) = gd (sendsC n shI x (nI Y) (nI tc)) (nI (sentV K csn n st (kdV kmI x) (kdV bmI x) (nI Y).toNatClampNeg (nI tc).toNatClampNeg)) (sendsC n shI x (nI Y) (nI tc)); rw [hC]; exact (gd_n hy9_32).symm) (Nat.le_of_ble_eq_true rfl) (Nat.le_of_ble_eq_true rfl) rfl
      · skip
        have hI := wI_w app2.symm hI
        have hI : wI E AR sR H locs (xW E ad iv ch rd tp rf (hdI shI aqI) (adn 10) tr (adg 8) dy im ++ (itsW (itF E aqI shI soI szI kmI bmI RI) ++ (gW E adg ivg grg pag mog sgg tng ++ (tW E adn ivn hrn csn (sK K))))) := hI
        have hI : wI E AR sR _ _ (xW E ad iv ch rd tp rf (hdI shI aqI) (adn 10) tr (adg 8) dy im ++ (gW E adg ivg grg pag mog sgg tng ++ (tW E adn ivn hrn csn (sK K) ++ (itsW (itF E aqI shI soI szI kmI bmI RI))))) := wI_pick ([xW E ad iv ch rd tp rf (hdI shI aqI) (adn 10) tr (adg 8) dy im, itsW (itF E aqI shI soI szI kmI bmI RI), gW E adg ivg grg pag mog sgg tng, tW E adn ivn hrn csn (sK K)]) [0, 2, 3, 1] 4 rfl (by decide) hI
        have hp : r_32 = aqI x.toNatClampNeg ∧ coaV shI 1 x = 0 := hp
        obtain ⟨rfl, hy0_32⟩ := hp
        obtain ⟨P, hP, rfl⟩ := (coa_x0 hsh hy0_32)
        have tP : (nI P).toInt = (P : Int) := nI_toInt (by omega)
        have c_h := coa_sh hsh hP hy0_32
        refine W.eq (g2 := F0 mR 35 ls [.ref (aqI P)]) (by rw [nI_clamp (n := P) (by omega)]) ?_
        have hI : wI E AR sR _ _ (itsW (itF E aqI shI soI szI kmI bmI RI) ++ (xW E ad iv ch rd tp rf (hdI shI aqI) (adn 10) tr (adg 8) dy im ++ (gW E adg ivg grg pag mog sgg tng ++ (tW E adn ivn hrn csn (sK K))))) := wI_pick ([xW E ad iv ch rd tp rf (hdI shI aqI) (adn 10) tr (adg 8) dy im, gW E adg ivg grg pag mog sgg tng, tW E adn ivn hrn csn (sK K), itsW (itF E aqI shI soI szI kmI bmI RI)]) [3, 0, 1, 2] 4 rfl (by decide) hI
        obtain ⟨zk, hk1m, hk5m, hzk9⟩ := hkm P hP c_h
        obtain ⟨zb, hzb, hzb9⟩ := hbm P hP
        have hI := its_out (f := itF E aqI shI soI szI kmI bmI RI) hP (itF_man c_h hzk9 (by omega)) hI
        have hI : wI E AR sR _ _ (manW E (aqI P) zk (bmI P) ++ (itsX (itF E aqI shI soI szI kmI bmI RI) P ++ (xW E ad iv ch rd tp rf (hdI shI aqI) (adn 10) tr (adg 8) dy im ++ (gW E adg ivg grg pag mog sgg tng ++ (tW E adn ivn hrn csn (sK K)))))) := hI
        have hI : wI E AR sR _ _ (xW E ad iv ch rd tp rf (hdI shI aqI) (adn 10) tr (adg 8) dy im ++ (gW E adg ivg grg pag mog sgg tng ++ (tW E adn ivn hrn csn (sK K) ++ (manW E (aqI P) zk (bmI P) ++ (itsX (itF E aqI shI soI szI kmI bmI RI) P))))) := wI_pick ([manW E (aqI P) zk (bmI P), itsX (itF E aqI shI soI szI kmI bmI RI) P, xW E ad iv ch rd tp rf (hdI shI aqI) (adn 10) tr (adg 8) dy im, gW E adg ivg grg pag mog sgg tng, tW E adn ivn hrn csn (sK K)]) [2, 3, 4, 0, 1] 5 rfl (by decide) hI
        refine lv_aload_n hxR hbR dX0_sends_35 rfl (lv_at hl 1 rfl) ?_
        have hI := wI_w app3 hI
        refine kVT (n := 0) (As := []) (rest := [.ref (aqI P)]) (fun w => w ++ (manW E (aqI P) zk (bmI P) ++ (itsX (itF E aqI shI soI szI kmI bmI RI) P))) hxR hbR hmlR hts hown hK hA hl.1 (isCtx.suf _) hI (c0_groups l E ad iv ch rd tp rf (hdI shI aqI) tr dy im adg ivg grg pag mog sgg tng adn ivn hrn csn K n st hn hst (by first | omega | with_reducible assumption) (by first | omega | with_reducible assumption) (by first | omega | with_reducible assumption) (by first | omega | with_reducible assumption)) (lw_V q626 q628 qs5 q81 q629) ⟨rfl, by decide +kernel⟩ 8 0 rfl rfl (he_l xW_o) rfl (Nat.le_of_ble_eq_true rfl) (Nat.le_of_ble_eq_true rfl) ⟨Nat.le_of_ble_eq_true rfl, Nat.le_of_ble_eq_true rfl⟩ (Nat.le_of_ble_eq_true rfl) dX0_sends_36 (fun u H locs hp hI hz => ?_)
        obtain ⟨mo2_36, sg2_36⟩ := u
        have hI := wI_w app3.symm hI
        have hI : wI E AR sR H locs (xW E ad iv ch rd tp rf (hdI shI aqI) (adn 10) tr (adg 8) dy im ++ (gW E adg (va_up ivg 5 (nI ((GL K n st).length))) (wrL grg 0 (GL K n st)) (wrL pag 0 ((GL K n st).map pairN)) mo2_36 sg2_36 (some (adn 10)) ++ (tW E adn ivn hrn csn (sK K) ++ (manW E (aqI P) zk (bmI P) ++ (itsX (itF E aqI shI soI szI kmI bmI RI) P))))) := hI
        have hp : (∀ Z, Z < 2 ^ n → mo2_36 Z = nI (mostV (GL K n st) Z)) ∧ (∀ p, p < n → sg2_36 p = nI (strS K p n)) := hp
        obtain ⟨hmo_36, hsg_36⟩ := hp
        have hLg : gL (wrL grg 0 (GL K n st)) (GL K n st) := gL_wr hn7 hs2 hs4
        refine lv_iload_n hxR hbR dX0_sends_39 rfl (lv_at hl 3 rfl) ?_
        refine lv_iload_n hxR hbR dX0_sends_40 rfl (lv_at hl 4 rfl) ?_
        have hI : wI E AR sR _ _ (manW E (aqI P) zk (bmI P) ++ (gW E adg (va_up ivg 5 (nI ((GL K n st).length))) (wrL grg 0 (GL K n st)) (wrL pag 0 ((GL K n st).map pairN)) mo2_36 sg2_36 (some (adn 10)) ++ (tW E adn ivn hrn csn (sK K) ++ (xW E ad iv ch rd tp rf (hdI shI aqI) (adn 10) tr (adg 8) dy im ++ (itsX (itF E aqI shI soI szI kmI bmI RI) P))))) := wI_pick ([xW E ad iv ch rd tp rf (hdI shI aqI) (adn 10) tr (adg 8) dy im, gW E adg (va_up ivg 5 (nI ((GL K n st).length))) (wrL grg 0 (GL K n st)) (wrL pag 0 ((GL K n st).map pairN)) mo2_36 sg2_36 (some (adn 10)), tW E adn ivn hrn csn (sK K), manW E (aqI P) zk (bmI P), itsX (itF E aqI shI soI szI kmI bmI RI) P]) [3, 1, 2, 0, 4] 5 rfl (by decide) hI
        have hI := wI_w app3 hI
        refine kSends (n := 3) (As := [.ref (adg 8), .int (nI Y), .int (nI tc)]) (rest := []) (fun w => w ++ (xW E ad iv ch rd tp rf (hdI shI aqI) (adn 10) tr (adg 8) dy im ++ (itsX (itF E aqI shI soI szI kmI bmI RI) P))) hxR hbR hmlR hts hown hK hA hl.1 (isCtx.suf _) hI (sends_ok l E (aqI P) zk (bmI P) adg (va_up ivg 5 (nI ((GL K n st).length))) (wrL grg 0 (GL K n st)) (wrL pag 0 ((GL K n st).map pairN)) mo2_36 sg2_36 adn ivn hrn csn K n st Y tc zb hk1m hk5m hn va_up_s (by first | omega | with_reducible assumption) hLg hmo_36 hsg_36 (by omega) (by omega) hzb hzb9) (by first | assumption | omega) (by first | assumption | omega) q1211 rfl rfl (Nat.le_of_ble_eq_true rfl) (Nat.le_of_ble_eq_true rfl) ⟨Nat.le_of_ble_eq_true rfl, Nat.le_of_ble_eq_true rfl⟩ (Nat.le_of_ble_eq_true rfl) dX0_sends_41 (fun r_41 u H locs hp hI hz => ?_)
        have hI := wI_w app3.symm hI
        have hI : wI E AR sR H locs (manW E (aqI P) zk (bmI P) ++ (gW E adg (va_up ivg 5 (nI ((GL K n st).length))) (wrL grg 0 (GL K n st)) (wrL pag 0 ((GL K n st).map pairN)) mo2_36 sg2_36 (some (adn 10)) ++ (tW E adn ivn hrn csn (sK K) ++ (xW E ad iv ch rd tp rf (hdI shI aqI) (adn 10) tr (adg 8) dy im ++ (itsX (itF E aqI shI soI szI kmI bmI RI) P))))) := hI
        have hI : wI E AR sR _ _ (xW E ad iv ch rd tp rf (hdI shI aqI) (adn 10) tr (adg 8) dy im ++ (gW E adg (va_up ivg 5 (nI ((GL K n st).length))) (wrL grg 0 (GL K n st)) (wrL pag 0 ((GL K n st).map pairN)) mo2_36 sg2_36 (some (adn 10)) ++ (tW E adn ivn hrn csn (sK K) ++ (manW E (aqI P) zk (bmI P) ++ (itsX (itF E aqI shI soI szI kmI bmI RI) P))))) := wI_pick ([manW E (aqI P) zk (bmI P), gW E adg (va_up ivg 5 (nI ((GL K n st).length))) (wrL grg 0 (GL K n st)) (wrL pag 0 ((GL K n st).map pairN)) mo2_36 sg2_36 (some (adn 10)), tW E adn ivn hrn csn (sK K), xW E ad iv ch rd tp rf (hdI shI aqI) (adn 10) tr (adg 8) dy im, itsX (itF E aqI shI soI szI kmI bmI RI) P]) [3, 1, 2, 0, 4] 5 rfl (by decide) hI
        have hp : r_41 = nI (sentV K csn n st zk zb Y tc) := hp
        have hr_41 := hp
        subst hr_41
        have hI : wI E AR sR _ _ (manW E (aqI P) zk (bmI P) ++ (itsX (itF E aqI shI soI szI kmI bmI RI) P ++ (xW E ad iv ch rd tp rf (hdI shI aqI) (adn 10) tr (adg 8) dy im ++ (gW E adg (va_up ivg 5 (nI ((GL K n st).length))) (wrL grg 0 (GL K n st)) (wrL pag 0 ((GL K n st).map pairN)) mo2_36 sg2_36 (some (adn 10)) ++ (tW E adn ivn hrn csn (sK K)))))) := wI_pick ([xW E ad iv ch rd tp rf (hdI shI aqI) (adn 10) tr (adg 8) dy im, gW E adg (va_up ivg 5 (nI ((GL K n st).length))) (wrL grg 0 (GL K n st)) (wrL pag 0 ((GL K n st).map pairN)) mo2_36 sg2_36 (some (adn 10)), tW E adn ivn hrn csn (sK K), manW E (aqI P) zk (bmI P), itsX (itF E aqI shI soI szI kmI bmI RI) P]) [3, 4, 0, 1, 2] 5 rfl (by decide) hI
        have hI := its_in (f := itF E aqI shI soI szI kmI bmI RI) (g := itF E aqI shI soI szI kmI bmI RI) hP (fun _ _ => rfl) (itF_man c_h hzk9 (by omega)) hI
        have hI : wI E AR sR _ _ (itsW (itF E aqI shI soI szI kmI bmI RI) ++ (xW E ad iv ch rd tp rf (hdI shI aqI) (adn 10) tr (adg 8) dy im ++ (gW E adg (va_up ivg 5 (nI ((GL K n st).length))) (wrL grg 0 (GL K n st)) (wrL pag 0 ((GL K n st).map pairN)) mo2_36 sg2_36 (some (adn 10)) ++ (tW E adn ivn hrn csn (sK K))))) := hI
        have hI : wI E AR sR _ _ (xW E ad iv ch rd tp rf (hdI shI aqI) (adn 10) tr (adg 8) dy im ++ (gW E adg (va_up ivg 5 (nI ((GL K n st).length))) (wrL grg 0 (GL K n st)) (wrL pag 0 ((GL K n st).map pairN)) mo2_36 sg2_36 (some (adn 10)) ++ (tW E adn ivn hrn csn (sK K) ++ (itsW (itF E aqI shI soI szI kmI bmI RI))))) := wI_pick ([itsW (itF E aqI shI soI szI kmI bmI RI), xW E ad iv ch rd tp rf (hdI shI aqI) (adn 10) tr (adg 8) dy im, gW E adg (va_up ivg 5 (nI ((GL K n st).length))) (wrL grg 0 (GL K n st)) (wrL pag 0 ((GL K n st).map pairN)) mo2_36 sg2_36 (some (adn 10)), tW E adn ivn hrn csn (sK K)]) [1, 2, 3, 0] 4 rfl (by decide) hI
        have hC : sendsC n shI (nI P) (nI Y) (nI tc) = 0 := by
          clear hret hI
          exact (sendsC_y (by omega) (by omega)).trans ((coa_n (by decide)).symm.trans hy0_32)
        have erf : bumpR rf (sendsC n shI (nI P) (nI Y) (nI tc)) = rf := by rw [hC]; exact bump_0 _
        have hI := wI_w (ws' := xW E ad iv ch rd tp (bumpR rf (sendsC n shI (nI P) (nI Y) (nI tc))) (hdI shI aqI) (adn 10) tr (adg 8) dy im ++ (gW E adg (va_up ivg 5 (nI ((GL K n st).length))) (wrL grg 0 (GL K n st)) (wrL pag 0 ((GL K n st).map pairN)) mo2_36 sg2_36 (some (adn 10)) ++ (tW E adn ivn hrn csn (sK K) ++ (itsW (itF E aqI shI soI szI kmI bmI RI))))) (by rw [erf]; try rfl) hI
        exact hret (mo2_36, sg2_36, wrL grg 0 (GL K n st), wrL pag 0 ((GL K n st).map pairN), some (adn 10), nI ((GL K n st).length)) (nI (sentV K csn n st zk zb Y tc)) _ _ (0 + 1) (0 + 7) _ _ dX0_sends_44 hI (by show (nI (sentV K csn n st zk zb Y tc)) = gd (sendsC n shI (nI P) (nI Y) (nI tc)) (nI (sentV K csn n st (kdV kmI (nI P)) (kdV bmI (nI P)) (nI Y).toNatClampNeg (nI tc).toNatClampNeg)) (sendsC n shI (nI P) (nI Y) (nI tc)); rw [hC, gd_0, kdV_n hP hzk9 (by omega), kdV_n hP hzb9 hzb, nI_clamp (by omega), nI_clamp (by omega)]) (Nat.le_of_ble_eq_true rfl) (Nat.le_of_ble_eq_true rfl) rfl
    · skip
      have c_15 : ¬ (Int32.toInt 0 ≤ Int32.toInt t ∧ Int32.toInt t ≤ Int32.toInt 7) := of_decide_eq_false c_15
      have c_15 : ¬ (0 ≤ t.toInt ∧ t.toInt ≤ 7) := by exact c_15
      refine lv_if_eq (tgt := 25) hxR hbR dX0_sends_18 (by decide) (fun _ => ?_) (fun c => absurd c (by decide))
      refine lv_iconst (v := 0) hxR hbR dX0_sends_25 (by decide) ?_
      refine lv_istore (lv' := [(4, .int 0), (0, .ref (ad 11)), (1, .int x), (2, .int (nI Y)), (3, .int t)]) hxR hbR dX0_sends_26 hl (by decide) rfl (fun ls hl => ?_)
      refine lv_aload_n hxR hbR dX0_sends_28 rfl (lv_at hl 1 rfl) ?_
      refine lv_iload hxR hbR dX0_sends_29 (lv_at hl 0 rfl) ?_
      refine lv_iload_n hxR hbR dX0_sends_31 rfl (lv_at hl 2 rfl) ?_
      have hI : wI E AR sR _ _ (xW E ad iv ch rd tp rf (hdI shI aqI) (adn 10) tr (adg 8) dy im ++ (itsW (itF E aqI shI soI szI kmI bmI RI) ++ (gW E adg ivg grg pag mog sgg tng ++ (tW E adn ivn hrn csn (sK K))))) := wI_pick ([xW E ad iv ch rd tp rf (hdI shI aqI) (adn 10) tr (adg 8) dy im, gW E adg ivg grg pag mog sgg tng, tW E adn ivn hrn csn (sK K), itsW (itF E aqI shI soI szI kmI bmI RI)]) [0, 3, 1, 2] 4 rfl (by decide) hI
      have hI := wI_w app2 hI
      refine kVRX (n := 2) (As := [.int 0, .int x]) (rest := []) (fun w => w ++ (gW E adg ivg grg pag mog sgg tng ++ (tW E adn ivn hrn csn (sK K)))) hxR hbR hmlR hts hown hK hA hl.1 (isCtx.suf _) hI (c0_coachmanIn l E ad iv ch rd tp rf (adn 10) tr (adg 8) dy im aqI shI soI szI kmI bmI RI 0 x hlt (by first | omega | with_reducible assumption) (by first | omega | with_reducible assumption) (by first | omega | with_reducible assumption) (by first | omega | with_reducible assumption) (by first | omega | with_reducible assumption)) (lw_V q1207 q1209 qs18 q81 q1210) ⟨rfl, by decide +kernel⟩ 8 0 rfl rfl (he_l xW_o) rfl (Nat.le_of_ble_eq_true rfl) (Nat.le_of_ble_eq_true rfl) ⟨by omega, by omega⟩ (Nat.le_of_ble_eq_true rfl) dX0_sends_32 (fun En ce_32 q_32 u H locs hX hI hz hq1 hq2 hq3 => ?_) (fun r_32 u H locs hp hI hz => ?_)
      · skip
        have hI := wI_w app3.symm hI
        have hI : wI E AR sR H locs (xW E ad iv ch rd tp rf (hdI shI aqI) (adn 10) tr (adg 8) dy im ++ (itsW (itF E aqI shI soI szI kmI bmI RI) ++ ([(q_32, .inr (6, [.null, .null, .null, .null, .null, .int 0, .int (coaV shI 0 x)]))] ++ (gW E adg ivg grg pag mog sgg tng ++ (tW E adn ivn hrn csn (sK K)))))) := hI
        have hI : wI E AR sR _ _ (xW E ad iv ch rd tp rf (hdI shI aqI) (adn 10) tr (adg 8) dy im ++ (gW E adg ivg grg pag mog sgg tng ++ (tW E adn ivn hrn csn (sK K) ++ ([(q_32, .inr (6, [.null, .null, .null, .null, .null, .int 0, .int (coaV shI 0 x)]))] ++ (itsW (itF E aqI shI soI szI kmI bmI RI)))))) := wI_pick ([xW E ad iv ch rd tp rf (hdI shI aqI) (adn 10) tr (adg 8) dy im, itsW (itF E aqI shI soI szI kmI bmI RI), [(q_32, .inr (6, [.null, .null, .null, .null, .null, .int 0, .int (coaV shI 0 x)]))], gW E adg ivg grg pag mog sgg tng, tW E adn ivn hrn csn (sK K)]) [0, 3, 4, 2, 1] 5 rfl (by decide) hI
        have hX : En = "ThreeStrangers$Refused" ∧ ¬ coaV shI 0 x = 0 := hX
        obtain ⟨rfl, hy9_32⟩ := hX
        refine r_catch 0 _ hown hts hK.xw htab rfl (fun z hz => absurd hz List.not_mem_nil) (by decide) (by decide) q410 q436 hq1 hq2 hq3 ?_
        refine W.eq (g2 := F0 mR 45 ls [.ref q_32]) rfl ?_
        refine lv_astore (lv' := [(4, .ref q_32), (0, .ref (ad 11)), (1, .int x), (2, .int (nI Y)), (3, .int t)]) hxR hbR dX0_sends_45 hl (by decide) rfl (fun ls hl => ?_)
        refine lv_aload_n hxR hbR dX0_sends_47 rfl (lv_at hl 1 rfl) ?_
        refine lv_aload hxR hbR dX0_sends_48 (lv_at hl 0 rfl) ?_
        refine r_get hxR hbR hts hown hK hI okX6 (ci := 6) rfl (14 + (5 + (4 + 0))) (he_r (Nat.le_of_ble_eq_true rfl) (Nat.le_of_ble_eq_true rfl) (he_r (Nat.le_of_ble_eq_true rfl) (Nat.le_of_ble_eq_true rfl) (he_r (Nat.le_of_ble_eq_true rfl) (Nat.le_of_ble_eq_true rfl) (he_l rfl)))) 6 (by decide) q456 rfl (v := .int (coaV shI 0 x)) rfl dX0_sends_50 ?_
        refine kVI (n := 1) (As := [.int (coaV shI 0 x)]) (rest := []) (fun w => w ++ (gW E adg ivg grg pag mog sgg tng ++ (tW E adn ivn hrn csn (sK K) ++ ([(q_32, .inr (6, [.null, .null, .null, .null, .null, .int 0, .int (coaV shI 0 x)]))] ++ (itsW (itF E aqI shI soI szI kmI bmI RI)))))) hxR hbR hmlR hts hown hK hA hl.1 (isCtx.suf _) hI (c0_noV l E ad iv ch rd tp rf (hdI shI aqI) (adn 10) tr (adg 8) dy im (coaV shI 0 x) (r5 (coa_r hy9_32))) (lw_V q396 q398 qs2 q81 q399) ⟨rfl, by decide +kernel⟩ 8 0 rfl rfl xW_o rfl (Nat.le_of_ble_eq_true rfl) (Nat.le_of_ble_eq_true rfl) ⟨Nat.le_of_ble_eq_true rfl, Nat.le_of_ble_eq_true rfl⟩ (Nat.le_of_ble_eq_true rfl) dX0_sends_53 (fun r_53 u H locs hp hI hz => ?_)
        have hI : wI E AR sR H locs (xW E ad iv ch rd tp (bumpR rf (coaV shI 0 x)) (hdI shI aqI) (adn 10) tr (adg 8) dy im ++ (gW E adg ivg grg pag mog sgg tng ++ (tW E adn ivn hrn csn (sK K) ++ ([(q_32, .inr (6, [.null, .null, .null, .null, .null, .int 0, .int (coaV shI 0 x)]))] ++ (itsW (itF E aqI shI soI szI kmI bmI RI)))))) := hI
        have hp : r_53 = (coaV shI 0 x) := hp
        have hr_53 := hp
        subst hr_53
        have hI : wI E AR sR _ _ ([(q_32, .inr (6, [.null, .null, .null, .null, .null, .int 0, .int (coaV shI 0 x)]))] ++ (xW E ad iv ch rd tp (bumpR rf (coaV shI 0 x)) (hdI shI aqI) (adn 10) tr (adg 8) dy im ++ (gW E adg ivg grg pag mog sgg tng ++ (tW E adn ivn hrn csn (sK K) ++ (itsW (itF E aqI shI soI szI kmI bmI RI)))))) := wI_pick ([xW E ad iv ch rd tp (bumpR rf (coaV shI 0 x)) (hdI shI aqI) (adn 10) tr (adg 8) dy im, gW E adg ivg grg pag mog sgg tng, tW E adn ivn hrn csn (sK K), [(q_32, .inr (6, [.null, .null, .null, .null, .null, .int 0, .int (coaV shI 0 x)]))], itsW (itF E aqI shI soI szI kmI bmI RI)]) [3, 0, 1, 2, 4] 5 rfl (by decide) hI
        have hI := wI_dropL hI
        have hC : sendsC n shI x (nI Y) t = coaV shI 0 x := by
          clear hret hI
          rw [coa_m rfl]; exact sendsC_n (fun z => c_15 (by have := z.2; omega))
        have erf : bumpR rf (sendsC n shI x (nI Y) t) = bumpR rf (coaV shI 0 x) := by rw [hC]
        have hI := wI_w (ws' := xW E ad iv ch rd tp (bumpR rf (sendsC n shI x (nI Y) t)) (hdI shI aqI) (adn 10) tr (adg 8) dy im ++ (gW E adg (va_up ivg 5 (ivg 5)) grg pag mog sgg tng ++ (tW E adn ivn hrn csn (sK K) ++ (itsW (itF E aqI shI soI szI kmI bmI RI))))) (by rw [erf, va_up_id (f := ivg) (k := 5) (v := ivg 5) rfl]; try rfl) hI
        exact hret (mog, sgg, grg, pag, tng, ivg 5) (coaV shI 0 x) _ _ (0 + 1) (0 + 7) _ _ dX0_sends_56 hI (by show (coaV shI 0 x) = gd (sendsC n shI x (nI Y) t) (nI (sentV K csn n st (kdV kmI x) (kdV bmI x) (nI Y).toNatClampNeg t.toNatClampNeg)) (sendsC n shI x (nI Y) t); rw [hC]; exact (gd_n hy9_32).symm) (Nat.le_of_ble_eq_true rfl) (Nat.le_of_ble_eq_true rfl) rfl
      · skip
        have hI := wI_w app2.symm hI
        have hI : wI E AR sR H locs (xW E ad iv ch rd tp rf (hdI shI aqI) (adn 10) tr (adg 8) dy im ++ (itsW (itF E aqI shI soI szI kmI bmI RI) ++ (gW E adg ivg grg pag mog sgg tng ++ (tW E adn ivn hrn csn (sK K))))) := hI
        have hI : wI E AR sR _ _ (xW E ad iv ch rd tp rf (hdI shI aqI) (adn 10) tr (adg 8) dy im ++ (gW E adg ivg grg pag mog sgg tng ++ (tW E adn ivn hrn csn (sK K) ++ (itsW (itF E aqI shI soI szI kmI bmI RI))))) := wI_pick ([xW E ad iv ch rd tp rf (hdI shI aqI) (adn 10) tr (adg 8) dy im, itsW (itF E aqI shI soI szI kmI bmI RI), gW E adg ivg grg pag mog sgg tng, tW E adn ivn hrn csn (sK K)]) [0, 2, 3, 1] 4 rfl (by decide) hI
        have hp : r_32 = aqI x.toNatClampNeg ∧ coaV shI 0 x = 0 := hp
        obtain ⟨rfl, hy0_32⟩ := hp
        exfalso
        exact absurd ((coa_m rfl).symm.trans hy0_32) (by decide)
  · skip
    have c_5 : ¬ (0 ≤ Int32.toInt y ∧ Int32.toInt y < ((2 ^ n : Nat) : Int)) := of_decide_eq_false c_5
    refine lv_if_eq (tgt := 25) hxR hbR dX0_sends_8 (by decide) (fun _ => ?_) (fun c => absurd c (by decide))
    refine lv_iconst (v := 0) hxR hbR dX0_sends_25 (by decide) ?_
    refine lv_istore (lv' := [(4, .int 0), (0, .ref (ad 11)), (1, .int x), (2, .int y), (3, .int t)]) hxR hbR dX0_sends_26 hl (by decide) rfl (fun ls hl => ?_)
    refine lv_aload_n hxR hbR dX0_sends_28 rfl (lv_at hl 1 rfl) ?_
    refine lv_iload hxR hbR dX0_sends_29 (lv_at hl 0 rfl) ?_
    refine lv_iload_n hxR hbR dX0_sends_31 rfl (lv_at hl 2 rfl) ?_
    have hI : wI E AR sR _ _ (xW E ad iv ch rd tp rf (hdI shI aqI) (adn 10) tr (adg 8) dy im ++ (itsW (itF E aqI shI soI szI kmI bmI RI) ++ (gW E adg ivg grg pag mog sgg tng ++ (tW E adn ivn hrn csn (sK K))))) := wI_pick ([xW E ad iv ch rd tp rf (hdI shI aqI) (adn 10) tr (adg 8) dy im, gW E adg ivg grg pag mog sgg tng, tW E adn ivn hrn csn (sK K), itsW (itF E aqI shI soI szI kmI bmI RI)]) [0, 3, 1, 2] 4 rfl (by decide) hI
    have hI := wI_w app2 hI
    refine kVRX (n := 2) (As := [.int 0, .int x]) (rest := []) (fun w => w ++ (gW E adg ivg grg pag mog sgg tng ++ (tW E adn ivn hrn csn (sK K)))) hxR hbR hmlR hts hown hK hA hl.1 (isCtx.suf _) hI (c0_coachmanIn l E ad iv ch rd tp rf (adn 10) tr (adg 8) dy im aqI shI soI szI kmI bmI RI 0 x hlt (by first | omega | with_reducible assumption) (by first | omega | with_reducible assumption) (by first | omega | with_reducible assumption) (by first | omega | with_reducible assumption) (by first | omega | with_reducible assumption)) (lw_V q1207 q1209 qs18 q81 q1210) ⟨rfl, by decide +kernel⟩ 8 0 rfl rfl (he_l xW_o) rfl (Nat.le_of_ble_eq_true rfl) (Nat.le_of_ble_eq_true rfl) ⟨by omega, by omega⟩ (Nat.le_of_ble_eq_true rfl) dX0_sends_32 (fun En ce_32 q_32 u H locs hX hI hz hq1 hq2 hq3 => ?_) (fun r_32 u H locs hp hI hz => ?_)
    · skip
      have hI := wI_w app3.symm hI
      have hI : wI E AR sR H locs (xW E ad iv ch rd tp rf (hdI shI aqI) (adn 10) tr (adg 8) dy im ++ (itsW (itF E aqI shI soI szI kmI bmI RI) ++ ([(q_32, .inr (6, [.null, .null, .null, .null, .null, .int 0, .int (coaV shI 0 x)]))] ++ (gW E adg ivg grg pag mog sgg tng ++ (tW E adn ivn hrn csn (sK K)))))) := hI
      have hI : wI E AR sR _ _ (xW E ad iv ch rd tp rf (hdI shI aqI) (adn 10) tr (adg 8) dy im ++ (gW E adg ivg grg pag mog sgg tng ++ (tW E adn ivn hrn csn (sK K) ++ ([(q_32, .inr (6, [.null, .null, .null, .null, .null, .int 0, .int (coaV shI 0 x)]))] ++ (itsW (itF E aqI shI soI szI kmI bmI RI)))))) := wI_pick ([xW E ad iv ch rd tp rf (hdI shI aqI) (adn 10) tr (adg 8) dy im, itsW (itF E aqI shI soI szI kmI bmI RI), [(q_32, .inr (6, [.null, .null, .null, .null, .null, .int 0, .int (coaV shI 0 x)]))], gW E adg ivg grg pag mog sgg tng, tW E adn ivn hrn csn (sK K)]) [0, 3, 4, 2, 1] 5 rfl (by decide) hI
      have hX : En = "ThreeStrangers$Refused" ∧ ¬ coaV shI 0 x = 0 := hX
      obtain ⟨rfl, hy9_32⟩ := hX
      refine r_catch 0 _ hown hts hK.xw htab rfl (fun z hz => absurd hz List.not_mem_nil) (by decide) (by decide) q410 q436 hq1 hq2 hq3 ?_
      refine W.eq (g2 := F0 mR 45 ls [.ref q_32]) rfl ?_
      refine lv_astore (lv' := [(4, .ref q_32), (0, .ref (ad 11)), (1, .int x), (2, .int y), (3, .int t)]) hxR hbR dX0_sends_45 hl (by decide) rfl (fun ls hl => ?_)
      refine lv_aload_n hxR hbR dX0_sends_47 rfl (lv_at hl 1 rfl) ?_
      refine lv_aload hxR hbR dX0_sends_48 (lv_at hl 0 rfl) ?_
      refine r_get hxR hbR hts hown hK hI okX6 (ci := 6) rfl (14 + (5 + (4 + 0))) (he_r (Nat.le_of_ble_eq_true rfl) (Nat.le_of_ble_eq_true rfl) (he_r (Nat.le_of_ble_eq_true rfl) (Nat.le_of_ble_eq_true rfl) (he_r (Nat.le_of_ble_eq_true rfl) (Nat.le_of_ble_eq_true rfl) (he_l rfl)))) 6 (by decide) q456 rfl (v := .int (coaV shI 0 x)) rfl dX0_sends_50 ?_
      refine kVI (n := 1) (As := [.int (coaV shI 0 x)]) (rest := []) (fun w => w ++ (gW E adg ivg grg pag mog sgg tng ++ (tW E adn ivn hrn csn (sK K) ++ ([(q_32, .inr (6, [.null, .null, .null, .null, .null, .int 0, .int (coaV shI 0 x)]))] ++ (itsW (itF E aqI shI soI szI kmI bmI RI)))))) hxR hbR hmlR hts hown hK hA hl.1 (isCtx.suf _) hI (c0_noV l E ad iv ch rd tp rf (hdI shI aqI) (adn 10) tr (adg 8) dy im (coaV shI 0 x) (r5 (coa_r hy9_32))) (lw_V q396 q398 qs2 q81 q399) ⟨rfl, by decide +kernel⟩ 8 0 rfl rfl xW_o rfl (Nat.le_of_ble_eq_true rfl) (Nat.le_of_ble_eq_true rfl) ⟨Nat.le_of_ble_eq_true rfl, Nat.le_of_ble_eq_true rfl⟩ (Nat.le_of_ble_eq_true rfl) dX0_sends_53 (fun r_53 u H locs hp hI hz => ?_)
      have hI : wI E AR sR H locs (xW E ad iv ch rd tp (bumpR rf (coaV shI 0 x)) (hdI shI aqI) (adn 10) tr (adg 8) dy im ++ (gW E adg ivg grg pag mog sgg tng ++ (tW E adn ivn hrn csn (sK K) ++ ([(q_32, .inr (6, [.null, .null, .null, .null, .null, .int 0, .int (coaV shI 0 x)]))] ++ (itsW (itF E aqI shI soI szI kmI bmI RI)))))) := hI
      have hp : r_53 = (coaV shI 0 x) := hp
      have hr_53 := hp
      subst hr_53
      have hI : wI E AR sR _ _ ([(q_32, .inr (6, [.null, .null, .null, .null, .null, .int 0, .int (coaV shI 0 x)]))] ++ (xW E ad iv ch rd tp (bumpR rf (coaV shI 0 x)) (hdI shI aqI) (adn 10) tr (adg 8) dy im ++ (gW E adg ivg grg pag mog sgg tng ++ (tW E adn ivn hrn csn (sK K) ++ (itsW (itF E aqI shI soI szI kmI bmI RI)))))) := wI_pick ([xW E ad iv ch rd tp (bumpR rf (coaV shI 0 x)) (hdI shI aqI) (adn 10) tr (adg 8) dy im, gW E adg ivg grg pag mog sgg tng, tW E adn ivn hrn csn (sK K), [(q_32, .inr (6, [.null, .null, .null, .null, .null, .int 0, .int (coaV shI 0 x)]))], itsW (itF E aqI shI soI szI kmI bmI RI)]) [3, 0, 1, 2, 4] 5 rfl (by decide) hI
      have hI := wI_dropL hI
      have hC : sendsC n shI x y t = coaV shI 0 x := by
        clear hret hI
        rw [coa_m rfl]; exact sendsC_n (fun z => c_5 z.1)
      have erf : bumpR rf (sendsC n shI x y t) = bumpR rf (coaV shI 0 x) := by rw [hC]
      have hI := wI_w (ws' := xW E ad iv ch rd tp (bumpR rf (sendsC n shI x y t)) (hdI shI aqI) (adn 10) tr (adg 8) dy im ++ (gW E adg (va_up ivg 5 (ivg 5)) grg pag mog sgg tng ++ (tW E adn ivn hrn csn (sK K) ++ (itsW (itF E aqI shI soI szI kmI bmI RI))))) (by rw [erf, va_up_id (f := ivg) (k := 5) (v := ivg 5) rfl]; try rfl) hI
      exact hret (mog, sgg, grg, pag, tng, ivg 5) (coaV shI 0 x) _ _ (0 + 1) (0 + 7) _ _ dX0_sends_56 hI (by show (coaV shI 0 x) = gd (sendsC n shI x y t) (nI (sentV K csn n st (kdV kmI x) (kdV bmI x) y.toNatClampNeg t.toNatClampNeg)) (sendsC n shI x y t); rw [hC]; exact (gd_n hy9_32).symm) (Nat.le_of_ble_eq_true rfl) (Nat.le_of_ble_eq_true rfl) rfl
    · skip
      have hI := wI_w app2.symm hI
      have hI : wI E AR sR H locs (xW E ad iv ch rd tp rf (hdI shI aqI) (adn 10) tr (adg 8) dy im ++ (itsW (itF E aqI shI soI szI kmI bmI RI) ++ (gW E adg ivg grg pag mog sgg tng ++ (tW E adn ivn hrn csn (sK K))))) := hI
      have hI : wI E AR sR _ _ (xW E ad iv ch rd tp rf (hdI shI aqI) (adn 10) tr (adg 8) dy im ++ (gW E adg ivg grg pag mog sgg tng ++ (tW E adn ivn hrn csn (sK K) ++ (itsW (itF E aqI shI soI szI kmI bmI RI))))) := wI_pick ([xW E ad iv ch rd tp rf (hdI shI aqI) (adn 10) tr (adg 8) dy im, itsW (itF E aqI shI soI szI kmI bmI RI), gW E adg ivg grg pag mog sgg tng, tW E adn ivn hrn csn (sK K)]) [0, 2, 3, 1] 4 rfl (by decide) hI
      have hp : r_32 = aqI x.toNatClampNeg ∧ coaV shI 0 x = 0 := hp
      obtain ⟨rfl, hy0_32⟩ := hp
      exfalso
      exact absurd ((coa_m rfl).symm.trans hy0_32) (by decide)
