theorem nd_all {g n : Nat} (h : g < 2 ^ n) : nd g (2 ^ n - 1) = 0 := by
  refine nd0_of (fun i hi => ?_)
  rw [Nat.testBit_two_pow_sub_one]
  refine decide_eq_true ?_
  rcases Nat.lt_or_ge i n with e | e
  · exact e
  · rw [Nat.testBit_lt_two_pow (Nat.lt_of_lt_of_le h (Nat.pow_le_pow_right (by decide) e))] at hi; cases hi
theorem cntL_all {S : Nat} : ∀ L : List Nat, (∀ g ∈ L, nd g S = 0) → cntL S L = L.length
  | [], _ => rfl
  | g :: t, h => by
    rw [cntL, if_pos (h g List.mem_cons_self), cntL_all t (fun x hx => h x (List.mem_cons_of_mem _ hx)), List.length_cons, Nat.add_comm]
theorem cntL_GL {K : Nat → Nat → Int32} {n st : Nat} : cntL (2 ^ n - 1) (GL K n st) = (GL K n st).length := cntL_all _ (fun g hg => nd_all (GL_lt g hg))
theorem kSym_rid {K : Nat → Nat → Int32} {n : Nat} {r : Nat → Int64} (h : kSym K n) : ∀ i, kSym (ridK n K r i) n
  | 0 => h
  | i + 1 => kSym_meet _ (kSym_rid h i)
theorem nd_nd9 (A B C : Nat) : nd (nd A B) C = nd A (B ||| C) := by
  apply Nat.eq_of_testBit_eq
  intro i
  rw [nd_bit, nd_bit, nd_bit, Nat.testBit_or, Bool.not_or, Bool.and_assoc]
theorem nd_z9 (A : Nat) : nd A 0 = A := by unfold nd; rw [Nat.and_zero, Nat.xor_zero]
theorem behC_n {sh sz : Nat → Int32} {K : Nat → Nat → Int32} {R : Nat → Nat → Int64} {n st : Nat} {x k w : Int32} (h : ¬ (0 ≤ w.toInt ∧ w.toInt ≤ 1)) : behC sh sz K R n st x k w = -2 := if_neg h
theorem behC_y {sh sz : Nat → Int32} {K : Nat → Nat → Int32} {R : Nat → Nat → Int64} {n st : Nat} {x k w : Int32} (h : 0 ≤ w.toInt ∧ w.toInt ≤ 1) : behC sh sz K R n st x k w = ridC sh sz K R n st x k := if_pos h

theorem c0_behind (l : Launch) (E : En) (ad : Nat → Nat) (iv : Nat → Int32) (ch : Nat → Int32) (rd : Nat → Int32) (tp : Nat → Int32) (rf : Nat → Int32) (dy : Nat) (im : Option Nat) (adg : Nat → Nat) (ivg : Nat → Int32) (grg : Nat → Int32) (pag : Nat → Int32) (mog : Nat → Int32) (sgg : Nat → Int32) (tng : Option Nat) (adn : Nat → Nat) (ivn : Nat → Int32) (hrn : Nat → Int32) (csn : Nat → Int32) (adr : Nat → Nat) (ivr : Nat → Int32) (hrr : Nat → Int32) (csr : Nat → Int32) (Sr : Nat → Int32) (aqI : Nat → Nat) (shI : Nat → Int32) (soI : Nat → Int32) (szI : Nat → Int32) (kmI : Nat → Int32) (bmI : Nat → Int32) (RI : Nat → Nat → Int64) (K : Nat → Nat → Int32) (n st : Nat) (x k w : Int32) (hlt : l.stackTraces = false) (hn : ivn 3 = nI n) (hst : ivn 4 = nI st) (hn7 : n ≤ 7) (hs2 : 2 ≤ st) (hs4 : st ≤ 4) (hsym : kSym K n) (hsh : ∀ P, P < 8 → shI P = 0 ∨ shI P = 1 ∨ shI P = 2) (hso : ∀ P, P < 8 → ∃ k, k ≤ 4 ∧ soI P = nI k) (hsz : ∀ P, P < 8 → ∃ k, k ≤ 40 ∧ szI P = nI k) (hkm : ∀ P, P < 8 → shI P = 2 → ∃ k, 1 ≤ k ∧ k ≤ 5 ∧ kmI P = nI k) (hbm : ∀ P, P < 8 → ∃ k, k < 100 ∧ bmI P = nI k) (hrk : ∀ P, P < 8 → shI P = 1 → ∀ j, j < (szI P).toNatClampNeg → rOk (soI P).toNatClampNeg (RI P j)) : XtI l E yX0_behind (wsW_ yX0_behind cX0_behind 7 (some FieldType.int) [(16, 102, 103, 111)]) 110 25 1607 [.ref (ad 11), .int x, .int k, .int w] (xW E ad iv ch rd tp rf (hdI shI aqI) (adn 10) (adr 10) (adg 8) dy im ++ (gW E adg ivg grg pag mog sgg tng ++ (tW E adn ivn hrn csn (sK K) ++ (tW E adr ivr hrr csr Sr ++ (itsW (itF E aqI shI soI szI kmI bmI RI)))))) (fun (r : Int32) (u : (Nat → Int32) × (Nat → Int32) × (Nat → Int32) × (Nat → Int32) × (Option Nat) × Int32 × (Nat → Int32) × (Nat → Int32) × (Nat → Int32) × (Nat → Int32)) => r = gd (behC shI szI K RI n st x k w) (behV K RI n st x k w) (behC shI szI K RI n st x k w)) (fun (u : (Nat → Int32) × (Nat → Int32) × (Nat → Int32) × (Nat → Int32) × (Option Nat) × Int32 × (Nat → Int32) × (Nat → Int32) × (Nat → Int32) × (Nat → Int32)) => xW E ad iv ch rd tp (bumpR rf (behC shI szI K RI n st x k w)) (hdI shI aqI) (adn 10) (adr 10) (adg 8) dy im ++ (gW E adg (va_up ivg 5 u.2.2.2.2.2.1) u.2.2.1 u.2.2.2.1 u.1 u.2.1 u.2.2.2.2.1 ++ (tW E adn ivn hrn csn (sK K) ++ (tW E adr u.2.2.2.2.2.2.1 u.2.2.2.2.2.2.2.1 u.2.2.2.2.2.2.2.2.1 u.2.2.2.2.2.2.2.2.2 ++ (itsW (itF E aqI shI soI szI kmI bmI RI)))))) (fun (_ : String) (_ : Unit) => False) (fun (_ : Unit) (_ : Nat) => []) := by
  have h28 : 2 ^ n ≤ 2 ^ 7 := Nat.pow_le_pow_right (by decide) hn7
  refine XtI.ofH (by decide +kernel) (Nat.le_of_ble_eq_true rfl) ?_
  intro pR eR sR mR aR bR tR cR AR ls QR hxR hbR hmlR hts hown hlk hnm hA hK hI hl htab hret hthr
  have hl : lv_has ls 7 [(0, .ref (ad 11)), (1, .int x), (2, .int k), (3, .int w)] := hl
  refine lv_iload_n hxR hbR dX0_behind_0 rfl (lv_at hl 3 rfl) ?_
  refine lv_iconst (v := 0) hxR hbR dX0_behind_1 (by decide) ?_
  refine lv_iconst (v := 1) hxR hbR dX0_behind_2 (by decide) ?_
  refine kSI (n := 3) (As := [.int w, .int 0, .int 1]) (rest := []) (fun w => w ++ (xW E ad iv ch rd tp rf (hdI shI aqI) (adn 10) (adr 10) (adg 8) dy im ++ (gW E adg ivg grg pag mog sgg tng ++ (tW E adn ivn hrn csn (sK K) ++ (tW E adr ivr hrr csr Sr ++ (itsW (itF E aqI shI soI szI kmI bmI RI))))))) hxR hbR hmlR hts hown hK hA hl.1 (isCtx.suf _) hI (c0_isIn l E  w 0 1 ) (lw_S q393 q394 q81 q395) (by decide +kernel) rfl (Nat.le_of_ble_eq_true rfl) (Nat.le_of_ble_eq_true rfl) ⟨by omega, by omega⟩ (Nat.le_of_ble_eq_true rfl) dX0_behind_3 (fun r_3 u H locs hp hI hz => ?_)
  have hI : wI E AR sR H locs (xW E ad iv ch rd tp rf (hdI shI aqI) (adn 10) (adr 10) (adg 8) dy im ++ (gW E adg ivg grg pag mog sgg tng ++ (tW E adn ivn hrn csn (sK K) ++ (tW E adr ivr hrr csr Sr ++ (itsW (itF E aqI shI soI szI kmI bmI RI)))))) := hI
  have hp : r_3 = b2i (decide (Int32.toInt 0 ≤ Int32.toInt w ∧ Int32.toInt w ≤ Int32.toInt 1)) := hp
  have hr_3 := hp
  rcases b2i_cases hr_3 with ⟨c_3, rfl⟩ | ⟨c_3, rfl⟩
  · skip
    have c_3 : Int32.toInt 0 ≤ Int32.toInt w ∧ Int32.toInt w ≤ Int32.toInt 1 := of_decide_eq_true c_3
    have c_3 : 0 ≤ w.toInt ∧ w.toInt ≤ 1 := by exact c_3
    refine lv_if_ne (tgt := 16) hxR hbR dX0_behind_6 (by decide) (fun _ => ?_) (fun c => absurd c (by decide))
    refine lv_aload_n hxR hbR dX0_behind_16 rfl (lv_at hl 0 rfl) ?_
    refine lv_iload_n hxR hbR dX0_behind_17 rfl (lv_at hl 1 rfl) ?_
    refine lv_iload_n hxR hbR dX0_behind_18 rfl (lv_at hl 2 rfl) ?_
    have hI : wI E AR sR _ _ (xW E ad iv ch rd tp rf (hdI shI aqI) (adn 10) (adr 10) (adg 8) dy im ++ (gW E adg ivg grg pag mog sgg tng ++ (tW E adn ivn hrn csn (sK K) ++ (itsW (itF E aqI shI soI szI kmI bmI RI) ++ (tW E adr ivr hrr csr Sr))))) := wI_pick ([xW E ad iv ch rd tp rf (hdI shI aqI) (adn 10) (adr 10) (adg 8) dy im, gW E adg ivg grg pag mog sgg tng, tW E adn ivn hrn csn (sK K), tW E adr ivr hrr csr Sr, itsW (itF E aqI shI soI szI kmI bmI RI)]) [0, 1, 2, 4, 3] 5 rfl (by decide) hI
    have hI := wI_w app4 hI
    refine kVRX (n := 2) (As := [.int x, .int k]) (rest := []) (fun w => w ++ (tW E adr ivr hrr csr Sr)) hxR hbR hmlR hts hown hK hA hl.1 (isCtx.suf _) hI (c0_goodIn l E ad iv ch rd tp rf (adr 10) dy im adg ivg grg pag mog sgg tng adn ivn hrn csn aqI shI soI szI kmI bmI RI K n st x k hlt hn hst (by first | omega | with_reducible assumption) (by first | omega | with_reducible assumption) (by first | omega | with_reducible assumption) (by first | omega | with_reducible assumption) (by first | omega | with_reducible assumption) (by first | omega | with_reducible assumption) (by first | omega | with_reducible assumption) (by first | omega | with_reducible assumption) (by first | omega | with_reducible assumption) (by first | omega | with_reducible assumption)) (lw_V q1405 q1407 qs32 q81 q1408) ⟨rfl, by decide +kernel⟩ 8 0 rfl rfl (he_l xW_o) rfl (Nat.le_of_ble_eq_true rfl) (Nat.le_of_ble_eq_true rfl) ⟨by omega, by omega⟩ (Nat.le_of_ble_eq_true rfl) dX0_behind_19 (fun En ce_19 q_19 u H locs hX hI hz hq1 hq2 hq3 => ?_) (fun r_19 u H locs hp hI hz => ?_)
    · skip
      obtain ⟨mo2_19, sg2_19, gr2_19, pa2_19, tn2_19, c5_19⟩ := u
      have hI := wI_w app5.symm hI
      have hI : wI E AR sR H locs (xW E ad iv ch rd tp rf (hdI shI aqI) (adn 10) (adr 10) (adg 8) dy im ++ (gW E adg (va_up ivg 5 c5_19) gr2_19 pa2_19 mo2_19 sg2_19 tn2_19 ++ (tW E adn ivn hrn csn (sK K) ++ (itsW (itF E aqI shI soI szI kmI bmI RI) ++ ([(q_19, .inr (6, [.null, .null, .null, .null, .null, .int 0, .int (ridC shI szI K RI n st x k)]))] ++ (tW E adr ivr hrr csr Sr)))))) := hI
      have hI : wI E AR sR _ _ (xW E ad iv ch rd tp rf (hdI shI aqI) (adn 10) (adr 10) (adg 8) dy im ++ (gW E adg (va_up ivg 5 c5_19) gr2_19 pa2_19 mo2_19 sg2_19 tn2_19 ++ (tW E adn ivn hrn csn (sK K) ++ (tW E adr ivr hrr csr Sr ++ ([(q_19, .inr (6, [.null, .null, .null, .null, .null, .int 0, .int (ridC shI szI K RI n st x k)]))] ++ (itsW (itF E aqI shI soI szI kmI bmI RI))))))) := wI_pick ([xW E ad iv ch rd tp rf (hdI shI aqI) (adn 10) (adr 10) (adg 8) dy im, gW E adg (va_up ivg 5 c5_19) gr2_19 pa2_19 mo2_19 sg2_19 tn2_19, tW E adn ivn hrn csn (sK K), itsW (itF E aqI shI soI szI kmI bmI RI), [(q_19, .inr (6, [.null, .null, .null, .null, .null, .int 0, .int (ridC shI szI K RI n st x k)]))], tW E adr ivr hrr csr Sr]) [0, 1, 2, 5, 4, 3] 6 rfl (by decide) hI
      have hX : En = "ThreeStrangers$Refused" ∧ ¬ ridC shI szI K RI n st x k = 0 := hX
      obtain ⟨rfl, hy9_19⟩ := hX
      refine r_catch 0 _ hown hts hK.xw htab rfl (fun z hz => absurd hz List.not_mem_nil) (by decide) (by decide) q410 q436 hq1 hq2 hq3 ?_
      refine W.eq (g2 := F0 mR 103 ls [.ref q_19]) rfl ?_
      refine lv_astore (lv' := [(4, .ref q_19), (0, .ref (ad 11)), (1, .int x), (2, .int k), (3, .int w)]) hxR hbR dX0_behind_103 hl (by decide) rfl (fun ls hl => ?_)
      refine lv_aload_n hxR hbR dX0_behind_105 rfl (lv_at hl 1 rfl) ?_
      refine lv_aload hxR hbR dX0_behind_106 (lv_at hl 0 rfl) ?_
      refine r_get hxR hbR hts hown hK hI okX6 (ci := 6) rfl (14 + (5 + (4 + (4 + 0)))) (he_r (Nat.le_of_ble_eq_true rfl) (Nat.le_of_ble_eq_true rfl) (he_r (Nat.le_of_ble_eq_true rfl) (Nat.le_of_ble_eq_true rfl) (he_r (Nat.le_of_ble_eq_true rfl) (Nat.le_of_ble_eq_true rfl) (he_r (Nat.le_of_ble_eq_true rfl) (Nat.le_of_ble_eq_true rfl) (he_l rfl))))) 6 (by decide) q456 rfl (v := .int (ridC shI szI K RI n st x k)) rfl dX0_behind_108 ?_
      refine kVI (n := 1) (As := [.int (ridC shI szI K RI n st x k)]) (rest := []) (fun w => w ++ (gW E adg (va_up ivg 5 c5_19) gr2_19 pa2_19 mo2_19 sg2_19 tn2_19 ++ (tW E adn ivn hrn csn (sK K) ++ (tW E adr ivr hrr csr Sr ++ ([(q_19, .inr (6, [.null, .null, .null, .null, .null, .int 0, .int (ridC shI szI K RI n st x k)]))] ++ (itsW (itF E aqI shI soI szI kmI bmI RI))))))) hxR hbR hmlR hts hown hK hA hl.1 (isCtx.suf _) hI (c0_noV l E ad iv ch rd tp rf (hdI shI aqI) (adn 10) (adr 10) (adg 8) dy im (ridC shI szI K RI n st x k) (ridC_r hy9_19)) (lw_V q396 q398 qs2 q81 q399) ⟨rfl, by decide +kernel⟩ 8 0 rfl rfl xW_o rfl (Nat.le_of_ble_eq_true rfl) (Nat.le_of_ble_eq_true rfl) ⟨by omega, by omega⟩ (Nat.le_of_ble_eq_true rfl) dX0_behind_111 (fun r_111 u H locs hp hI hz => ?_)
      have hI : wI E AR sR H locs (xW E ad iv ch rd tp (bumpR rf (ridC shI szI K RI n st x k)) (hdI shI aqI) (adn 10) (adr 10) (adg 8) dy im ++ (gW E adg (va_up ivg 5 c5_19) gr2_19 pa2_19 mo2_19 sg2_19 tn2_19 ++ (tW E adn ivn hrn csn (sK K) ++ (tW E adr ivr hrr csr Sr ++ ([(q_19, .inr (6, [.null, .null, .null, .null, .null, .int 0, .int (ridC shI szI K RI n st x k)]))] ++ (itsW (itF E aqI shI soI szI kmI bmI RI))))))) := hI
      have hp : r_111 = (ridC shI szI K RI n st x k) := hp
      have hr_111 := hp
      subst hr_111
      have hI : wI E AR sR _ _ ([(q_19, .inr (6, [.null, .null, .null, .null, .null, .int 0, .int (ridC shI szI K RI n st x k)]))] ++ (xW E ad iv ch rd tp (bumpR rf (ridC shI szI K RI n st x k)) (hdI shI aqI) (adn 10) (adr 10) (adg 8) dy im ++ (gW E adg (va_up ivg 5 c5_19) gr2_19 pa2_19 mo2_19 sg2_19 tn2_19 ++ (tW E adn ivn hrn csn (sK K) ++ (tW E adr ivr hrr csr Sr ++ (itsW (itF E aqI shI soI szI kmI bmI RI))))))) := wI_pick ([xW E ad iv ch rd tp (bumpR rf (ridC shI szI K RI n st x k)) (hdI shI aqI) (adn 10) (adr 10) (adg 8) dy im, gW E adg (va_up ivg 5 c5_19) gr2_19 pa2_19 mo2_19 sg2_19 tn2_19, tW E adn ivn hrn csn (sK K), tW E adr ivr hrr csr Sr, [(q_19, .inr (6, [.null, .null, .null, .null, .null, .int 0, .int (ridC shI szI K RI n st x k)]))], itsW (itF E aqI shI soI szI kmI bmI RI)]) [4, 0, 1, 2, 3, 5] 6 rfl (by decide) hI
      have hI := wI_dropL hI
      have hC : behC shI szI K RI n st x k w = ridC shI szI K RI n st x k := by
        clear hret hI
        exact behC_y c_3
      have erf : bumpR rf (behC shI szI K RI n st x k w) = bumpR rf (ridC shI szI K RI n st x k) := by rw [hC]
      have hI := wI_w (ws' := xW E ad iv ch rd tp (bumpR rf (behC shI szI K RI n st x k w)) (hdI shI aqI) (adn 10) (adr 10) (adg 8) dy im ++ (gW E adg (va_up ivg 5 c5_19) gr2_19 pa2_19 mo2_19 sg2_19 tn2_19 ++ (tW E adn ivn hrn csn (sK K) ++ (tW E adr ivr hrr csr Sr ++ (itsW (itF E aqI shI soI szI kmI bmI RI)))))) (by rw [erf]; try rfl) hI
      exact hret (mo2_19, sg2_19, gr2_19, pa2_19, tn2_19, c5_19, ivr, hrr, csr, Sr) (ridC shI szI K RI n st x k) _ _ (0 + 25) (0 + 1607) _ _ dX0_behind_114 hI (by show (ridC shI szI K RI n st x k) = gd (behC shI szI K RI n st x k w) (behV K RI n st x k w) (behC shI szI K RI n st x k w); rw [hC]; exact (gd_n hy9_19).symm) (by omega) (by omega) rfl
    · skip
      obtain ⟨mo2_19, sg2_19, gr2_19, pa2_19, tn2_19, c5_19⟩ := u
      have hI := wI_w app5.symm hI
      have hI : wI E AR sR H locs (xW E ad iv ch rd tp rf (hdI shI aqI) (adn 10) (adr 10) (adg 8) dy im ++ (gW E adg (va_up ivg 5 c5_19) gr2_19 pa2_19 mo2_19 sg2_19 tn2_19 ++ (tW E adn ivn hrn csn (sK K) ++ (itsW (itF E aqI shI soI szI kmI bmI RI) ++ (laW E r_19 k.toNatClampNeg (RI x.toNatClampNeg) ++ (tW E adr ivr hrr csr Sr)))))) := hI
      have hI : wI E AR sR _ _ (xW E ad iv ch rd tp rf (hdI shI aqI) (adn 10) (adr 10) (adg 8) dy im ++ (gW E adg (va_up ivg 5 c5_19) gr2_19 pa2_19 mo2_19 sg2_19 tn2_19 ++ (tW E adn ivn hrn csn (sK K) ++ (tW E adr ivr hrr csr Sr ++ (laW E r_19 k.toNatClampNeg (RI x.toNatClampNeg) ++ (itsW (itF E aqI shI soI szI kmI bmI RI))))))) := wI_pick ([xW E ad iv ch rd tp rf (hdI shI aqI) (adn 10) (adr 10) (adg 8) dy im, gW E adg (va_up ivg 5 c5_19) gr2_19 pa2_19 mo2_19 sg2_19 tn2_19, tW E adn ivn hrn csn (sK K), itsW (itF E aqI shI soI szI kmI bmI RI), laW E r_19 k.toNatClampNeg (RI x.toNatClampNeg), tW E adr ivr hrr csr Sr]) [0, 1, 2, 5, 4, 3] 6 rfl (by decide) hI
      have hp : ridC shI szI K RI n st x k = 0 := hp
      have hy0_19 := hp
      obtain ⟨hd0, hw0⟩ := ridC_0 hy0_19
      have hall := rid_ok (rid_n7 hd0) hw0
      obtain ⟨P, hP, rfl⟩ := (nd_x hd0)
      have tP : (nI P).toInt = (P : Int) := nI_toInt (by omega)
      obtain ⟨N, hN, rfl⟩ := (nd_k hd0)
      have tN : (nI N).toInt = (N : Int) := nI_toInt (by omega)
      have hI := wI_w (ws' := xW E ad iv ch rd tp rf (hdI shI aqI) (adn 10) (adr 10) (adg 8) dy im ++ (gW E adg (va_up ivg 5 c5_19) gr2_19 pa2_19 mo2_19 sg2_19 tn2_19 ++ (tW E adn ivn hrn csn (sK K) ++ (tW E adr ivr hrr csr Sr ++ (laW E r_19 N (RI P) ++ (itsW (itF E aqI shI soI szI kmI bmI RI))))))) (by rw [nI_clamp (n := P) (by omega), nI_clamp (n := N) (by omega)]) hI
      rw [nI_clamp (n := P) (by omega), nI_clamp (n := N) (by omega)] at hall
      refine lv_astore (lv' := [(4, .ref r_19), (0, .ref (ad 11)), (1, .int (nI P)), (2, .int (nI N)), (3, .int w)]) hxR hbR dX0_behind_22 hl (by decide) rfl (fun ls hl => ?_)
      refine lv_aload_n hxR hbR dX0_behind_24 rfl (lv_at hl 1 rfl) ?_
      refine r_get hxR hbR hts hown hK hI okX0 (ci := 0) rfl 8 (he_l xW_o) 0 (by decide) q263 rfl (v := .ref (adn 10)) rfl dX0_behind_25 ?_
      have hI := wI_w app2 hI
      refine kVI (n := 0) (As := []) (rest := []) (fun w => (xW E ad iv ch rd tp rf (hdI shI aqI) (adn 10) (adr 10) (adg 8) dy im ++ (gW E adg (va_up ivg 5 c5_19) gr2_19 pa2_19 mo2_19 sg2_19 tn2_19)) ++ (w ++ (tW E adr ivr hrr csr Sr ++ (laW E r_19 N (RI P) ++ (itsW (itF E aqI shI soI szI kmI bmI RI)))))) hxR hbR hmlR hts hown hK hA hl.1 (isCtx.mk _ _) hI (c1_all l E adn ivn hrn csn K n hn (by omega)) (lw_V q669 q643 q644 q82 q645) ⟨rfl, by decide +kernel⟩ 0 1 rfl rfl tW_o rfl (Nat.le_of_ble_eq_true rfl) (Nat.le_of_ble_eq_true rfl) ⟨by omega, by omega⟩ (Nat.le_of_ble_eq_true rfl) dX0_behind_28 (fun r_28 u H locs hp hI hz => ?_)
      have hI := wI_w app2.symm hI
      have hI : wI E AR sR H locs (xW E ad iv ch rd tp rf (hdI shI aqI) (adn 10) (adr 10) (adg 8) dy im ++ (gW E adg (va_up ivg 5 c5_19) gr2_19 pa2_19 mo2_19 sg2_19 tn2_19 ++ (tW E adn ivn hrn csn (sK K) ++ (tW E adr ivr hrr csr Sr ++ (laW E r_19 N (RI P) ++ (itsW (itF E aqI shI soI szI kmI bmI RI))))))) := hI
      have hp : r_28 = nI (2 ^ n - 1) := hp
      have hr_28 := hp
      subst hr_28
      refine lv_istore (lv' := [(5, .int (nI (2 ^ n - 1))), (4, .ref r_19), (0, .ref (ad 11)), (1, .int (nI P)), (2, .int (nI N)), (3, .int w)]) hxR hbR dX0_behind_31 hl (by decide) rfl (fun ls hl => ?_)
      refine lv_iconst (v := 0) hxR hbR dX0_behind_33 (by decide) ?_
      refine lv_istore (lv' := [(6, .int 0), (5, .int (nI (2 ^ n - 1))), (4, .ref r_19), (0, .ref (ad 11)), (1, .int (nI P)), (2, .int (nI N)), (3, .int w)]) hxR hbR dX0_behind_34 hl (by decide) rfl (fun ls hl => ?_)
      have lp_36 : ∀ (fu : Nat) (i : Nat) (lf : Nat), (i ≤ N) → (lf = nd (2 ^ n - 1) (rode (RI P) i)) → N - i < fu → ∀ (H : Heap) (locs : List Loc), wI E AR sR H locs (xW E ad iv ch rd tp rf (hdI shI aqI) (adn 10) (adr 10) (adg 8) dy im ++ (gW E adg (va_up ivg 5 c5_19) gr2_19 pa2_19 mo2_19 sg2_19 tn2_19 ++ (tW E adn ivn hrn csn (sK K) ++ (tW E adr ivr hrr csr Sr ++ (laW E r_19 N (RI P) ++ (itsW (itF E aqI shI soI szI kmI bmI RI))))))) → ∀ ls : Array Slot, lv_has ls 7 [(0, .ref (ad 11)), (1, .int (nI P)), (2, .int (nI N)), (3, .int w), (4, .ref r_19), (5, .int (nI lf)), (6, .int (nI i))] → W pR l eR (rmF 110 25 1607) sR mR aR bR tR cR H locs (0 + 25) (0 + 1607) QR (F0 mR 36 ls []) := by
        intro fu
        induction fu with
        | zero =>
          intro i lf hi hlf hfu
          exact absurd hfu (Nat.not_lt_zero _)
        | succ fu ih_36 =>
          intro i lf hi hlf hfu H locs hI ls hl
          refine lv_iload hxR hbR dX0_behind_36 (lv_at hl 6 rfl) ?_
          refine lv_iload_n hxR hbR dX0_behind_38 rfl (lv_at hl 2 rfl) ?_
          refine lv_icmp_ge (tgt := 61) hxR hbR dX0_behind_39 (by decide) (fun c_39 => ?_) (fun c_39 => ?_)
          · skip
            have c_39 : N ≤ i := (n_le (a := N) (b := i) (by omega) (by omega)).mp c_39
            refine lv_aload_n hxR hbR dX0_behind_61 rfl (lv_at hl 0 rfl) ?_
            refine r_get hxR hbR hts hown hK hI okX0 (ci := 0) rfl 8 (he_l xW_o) 2 (by decide) q266 rfl (v := .ref (adr 10)) rfl dX0_behind_62 ?_
            refine lv_aload_n hxR hbR dX0_behind_65 rfl (lv_at hl 0 rfl) ?_
            refine r_get hxR hbR hts hown hK hI okX0 (ci := 0) rfl 8 (he_l xW_o) 0 (by decide) q263 rfl (v := .ref (adn 10)) rfl dX0_behind_66 ?_
            have hI : wI E AR sR _ _ (tW E adr ivr hrr csr Sr ++ (tW E adn ivn hrn csn (sK K) ++ (xW E ad iv ch rd tp rf (hdI shI aqI) (adn 10) (adr 10) (adg 8) dy im ++ (gW E adg (va_up ivg 5 c5_19) gr2_19 pa2_19 mo2_19 sg2_19 tn2_19 ++ (laW E r_19 N (RI P) ++ (itsW (itF E aqI shI soI szI kmI bmI RI))))))) := wI_pick ([xW E ad iv ch rd tp rf (hdI shI aqI) (adn 10) (adr 10) (adg 8) dy im, gW E adg (va_up ivg 5 c5_19) gr2_19 pa2_19 mo2_19 sg2_19 tn2_19, tW E adn ivn hrn csn (sK K), tW E adr ivr hrr csr Sr, laW E r_19 N (RI P), itsW (itF E aqI shI soI szI kmI bmI RI)]) [3, 2, 0, 1, 4, 5] 6 rfl (by decide) hI
            have hI := wI_w app2 hI
            refine kVT (n := 1) (As := [.ref (adn 10)]) (rest := []) (fun w => w ++ (xW E ad iv ch rd tp rf (hdI shI aqI) (adn 10) (adr 10) (adg 8) dy im ++ (gW E adg (va_up ivg 5 c5_19) gr2_19 pa2_19 mo2_19 sg2_19 tn2_19 ++ (laW E r_19 N (RI P) ++ (itsW (itF E aqI shI soI szI kmI bmI RI)))))) hxR hbR hmlR hts hown hK hA hl.1 (isCtx.suf _) hI (c1_becomes l E adr ivr hrr csr Sr adn ivn hrn csn (sK K)  ) (lw_V q1288 q796 q797 q82 q798) ⟨rfl, by decide +kernel⟩ 0 1 rfl rfl (he_l tW_o) rfl (Nat.le_of_ble_eq_true rfl) (Nat.le_of_ble_eq_true rfl) ⟨by omega, by omega⟩ (Nat.le_of_ble_eq_true rfl) dX0_behind_69 (fun u H locs hp hI hz => ?_)
            have hI := wI_w app2.symm hI
            have hI : wI E AR sR H locs (tW E adr (va_up (va_up (va_up (va_up (va_up (va_up (va_up ivr 3 (ivn 3)) 4 (ivn 4)) 5 (ivn 5)) 6 (ivn 6)) 7 (ivn 7)) 8 (ivn 8)) 9 (ivn 9)) hrn csn (sK K) ++ (tW E adn ivn hrn csn (sK K) ++ (xW E ad iv ch rd tp rf (hdI shI aqI) (adn 10) (adr 10) (adg 8) dy im ++ (gW E adg (va_up ivg 5 c5_19) gr2_19 pa2_19 mo2_19 sg2_19 tn2_19 ++ (laW E r_19 N (RI P) ++ (itsW (itF E aqI shI soI szI kmI bmI RI))))))) := hI
            have hI : wI E AR sR _ _ (xW E ad iv ch rd tp rf (hdI shI aqI) (adn 10) (adr 10) (adg 8) dy im ++ (gW E adg (va_up ivg 5 c5_19) gr2_19 pa2_19 mo2_19 sg2_19 tn2_19 ++ (tW E adn ivn hrn csn (sK K) ++ (tW E adr (va_up (va_up (va_up (va_up (va_up (va_up (va_up ivr 3 (ivn 3)) 4 (ivn 4)) 5 (ivn 5)) 6 (ivn 6)) 7 (ivn 7)) 8 (ivn 8)) 9 (ivn 9)) hrn csn (sK K) ++ (laW E r_19 N (RI P) ++ (itsW (itF E aqI shI soI szI kmI bmI RI))))))) := wI_pick ([tW E adr (va_up (va_up (va_up (va_up (va_up (va_up (va_up ivr 3 (ivn 3)) 4 (ivn 4)) 5 (ivn 5)) 6 (ivn 6)) 7 (ivn 7)) 8 (ivn 8)) 9 (ivn 9)) hrn csn (sK K), tW E adn ivn hrn csn (sK K), xW E ad iv ch rd tp rf (hdI shI aqI) (adn 10) (adr 10) (adg 8) dy im, gW E adg (va_up ivg 5 c5_19) gr2_19 pa2_19 mo2_19 sg2_19 tn2_19, laW E r_19 N (RI P), itsW (itF E aqI shI soI szI kmI bmI RI)]) [2, 3, 1, 0, 4, 5] 6 rfl (by decide) hI
            refine lv_astore (lv' := [(6, .ref (adr 10)), (0, .ref (ad 11)), (1, .int (nI P)), (2, .int (nI N)), (3, .int w), (4, .ref r_19), (5, .int (nI lf))]) hxR hbR dX0_behind_72 hl (by decide) rfl (fun ls hl => ?_)
            refine lv_aload hxR hbR dX0_behind_74 (lv_at hl 0 rfl) ?_
            refine lv_aload hxR hbR dX0_behind_76 (lv_at hl 5 rfl) ?_
            have hI : wI E AR sR _ _ (tW E adr (va_up (va_up (va_up (va_up (va_up (va_up (va_up ivr 3 (ivn 3)) 4 (ivn 4)) 5 (ivn 5)) 6 (ivn 6)) 7 (ivn 7)) 8 (ivn 8)) 9 (ivn 9)) hrn csn (sK K) ++ (laW E r_19 N (RI P) ++ (xW E ad iv ch rd tp rf (hdI shI aqI) (adn 10) (adr 10) (adg 8) dy im ++ (gW E adg (va_up ivg 5 c5_19) gr2_19 pa2_19 mo2_19 sg2_19 tn2_19 ++ (tW E adn ivn hrn csn (sK K) ++ (itsW (itF E aqI shI soI szI kmI bmI RI))))))) := wI_pick ([xW E ad iv ch rd tp rf (hdI shI aqI) (adn 10) (adr 10) (adg 8) dy im, gW E adg (va_up ivg 5 c5_19) gr2_19 pa2_19 mo2_19 sg2_19 tn2_19, tW E adn ivn hrn csn (sK K), tW E adr (va_up (va_up (va_up (va_up (va_up (va_up (va_up ivr 3 (ivn 3)) 4 (ivn 4)) 5 (ivn 5)) 6 (ivn 6)) 7 (ivn 7)) 8 (ivn 8)) 9 (ivn 9)) hrn csn (sK K), laW E r_19 N (RI P), itsW (itF E aqI shI soI szI kmI bmI RI)]) [3, 4, 0, 1, 2, 5] 6 rfl (by decide) hI
            have hI := wI_w app2 hI
            refine kSV (n := 2) (As := [.ref (adr 10), .ref r_19]) (rest := []) (fun w => w ++ (xW E ad iv ch rd tp rf (hdI shI aqI) (adn 10) (adr 10) (adg 8) dy im ++ (gW E adg (va_up ivg 5 c5_19) gr2_19 pa2_19 mo2_19 sg2_19 tn2_19 ++ (tW E adn ivn hrn csn (sK K) ++ (itsW (itF E aqI shI soI szI kmI bmI RI)))))) hxR hbR hmlR hts hown hK hA hl.1 (isCtx.suf _) hI (c0_rides l E adr (va_up (va_up (va_up (va_up (va_up (va_up (va_up ivr 3 (ivn 3)) 4 (ivn 4)) 5 (ivn 5)) 6 (ivn 6)) 7 (ivn 7)) 8 (ivn 8)) 9 (ivn 9)) hrn csn r_19 N (RI P) K n hn (by first | omega | with_reducible assumption) (by omega) hall) (lw_S q1409 q1410 q81 q1411) (by decide +kernel) rfl (Nat.le_of_ble_eq_true rfl) (Nat.le_of_ble_eq_true rfl) ⟨by omega, by omega⟩ (Nat.le_of_ble_eq_true rfl) dX0_behind_78 (fun u H locs hp hI hz => ?_)
            have hI := wI_w app2.symm hI
            have hI : wI E AR sR H locs (tW E adr (va_up (va_up (va_up (va_up (va_up (va_up (va_up ivr 3 (ivn 3)) 4 (ivn 4)) 5 (ivn 5)) 6 (ivn 6)) 7 (ivn 7)) 8 (ivn 8)) 9 (ivn 9)) hrn csn (sK (ridK n K (RI P) N)) ++ (laW E r_19 N (RI P) ++ (xW E ad iv ch rd tp rf (hdI shI aqI) (adn 10) (adr 10) (adg 8) dy im ++ (gW E adg (va_up ivg 5 c5_19) gr2_19 pa2_19 mo2_19 sg2_19 tn2_19 ++ (tW E adn ivn hrn csn (sK K) ++ (itsW (itF E aqI shI soI szI kmI bmI RI))))))) := hI
            have hI : wI E AR sR _ _ (xW E ad iv ch rd tp rf (hdI shI aqI) (adn 10) (adr 10) (adg 8) dy im ++ (gW E adg (va_up ivg 5 c5_19) gr2_19 pa2_19 mo2_19 sg2_19 tn2_19 ++ (tW E adn ivn hrn csn (sK K) ++ (tW E adr (va_up (va_up (va_up (va_up (va_up (va_up (va_up ivr 3 (ivn 3)) 4 (ivn 4)) 5 (ivn 5)) 6 (ivn 6)) 7 (ivn 7)) 8 (ivn 8)) 9 (ivn 9)) hrn csn (sK (ridK n K (RI P) N)) ++ (laW E r_19 N (RI P) ++ (itsW (itF E aqI shI soI szI kmI bmI RI))))))) := wI_pick ([tW E adr (va_up (va_up (va_up (va_up (va_up (va_up (va_up ivr 3 (ivn 3)) 4 (ivn 4)) 5 (ivn 5)) 6 (ivn 6)) 7 (ivn 7)) 8 (ivn 8)) 9 (ivn 9)) hrn csn (sK (ridK n K (RI P) N)), laW E r_19 N (RI P), xW E ad iv ch rd tp rf (hdI shI aqI) (adn 10) (adr 10) (adg 8) dy im, gW E adg (va_up ivg 5 c5_19) gr2_19 pa2_19 mo2_19 sg2_19 tn2_19, tW E adn ivn hrn csn (sK K), itsW (itF E aqI shI soI szI kmI bmI RI)]) [2, 3, 4, 0, 1, 5] 6 rfl (by decide) hI
            refine lv_iload_n hxR hbR dX0_behind_81 rfl (lv_at hl 4 rfl) ?_
            refine lv_if_ne (tgt := 90) hxR hbR dX0_behind_82 (by decide) (fun c_82 => ?_) (fun c_82 => ?_)
            · skip
              have i_82 : ¬ (w.toInt = 0) := by have zz := mt i_eq.mpr c_82; exact zz
              refine lv_aload_n hxR hbR dX0_behind_90 rfl (lv_at hl 1 rfl) ?_
              refine r_get hxR hbR hts hown hK hI okX0 (ci := 0) rfl 8 (he_l xW_o) 3 (by decide) q267 rfl (v := .ref (adg 8)) rfl dX0_behind_91 ?_
              refine lv_aload hxR hbR dX0_behind_94 (lv_at hl 0 rfl) ?_
              have hI : wI E AR sR _ _ (gW E adg (va_up ivg 5 c5_19) gr2_19 pa2_19 mo2_19 sg2_19 tn2_19 ++ (tW E adr (va_up (va_up (va_up (va_up (va_up (va_up (va_up ivr 3 (ivn 3)) 4 (ivn 4)) 5 (ivn 5)) 6 (ivn 6)) 7 (ivn 7)) 8 (ivn 8)) 9 (ivn 9)) hrn csn (sK (ridK n K (RI P) N)) ++ (xW E ad iv ch rd tp rf (hdI shI aqI) (adn 10) (adr 10) (adg 8) dy im ++ (tW E adn ivn hrn csn (sK K) ++ (laW E r_19 N (RI P) ++ (itsW (itF E aqI shI soI szI kmI bmI RI))))))) := wI_pick ([xW E ad iv ch rd tp rf (hdI shI aqI) (adn 10) (adr 10) (adg 8) dy im, gW E adg (va_up ivg 5 c5_19) gr2_19 pa2_19 mo2_19 sg2_19 tn2_19, tW E adn ivn hrn csn (sK K), tW E adr (va_up (va_up (va_up (va_up (va_up (va_up (va_up ivr 3 (ivn 3)) 4 (ivn 4)) 5 (ivn 5)) 6 (ivn 6)) 7 (ivn 7)) 8 (ivn 8)) 9 (ivn 9)) hrn csn (sK (ridK n K (RI P) N)), laW E r_19 N (RI P), itsW (itF E aqI shI soI szI kmI bmI RI)]) [1, 3, 0, 2, 4, 5] 6 rfl (by decide) hI
              have hI := wI_w app2 hI
              refine kVT (n := 1) (As := [.ref (adr 10)]) (rest := []) (fun w => w ++ (xW E ad iv ch rd tp rf (hdI shI aqI) (adn 10) (adr 10) (adg 8) dy im ++ (tW E adn ivn hrn csn (sK K) ++ (laW E r_19 N (RI P) ++ (itsW (itF E aqI shI soI szI kmI bmI RI)))))) hxR hbR hmlR hts hown hK hA hl.1 (isCtx.suf _) hI (c2_of l E adg (va_up ivg 5 c5_19) gr2_19 pa2_19 mo2_19 sg2_19 tn2_19 adr (va_up (va_up (va_up (va_up (va_up (va_up (va_up ivr 3 (ivn 3)) 4 (ivn 4)) 5 (ivn 5)) 6 (ivn 6)) 7 (ivn 7)) 8 (ivn 8)) 9 (ivn 9)) hrn csn (ridK n K (RI P) N) n st hn hst (by first | omega | with_reducible assumption) (by first | omega | with_reducible assumption) (by first | omega | with_reducible assumption) (kSym_rid hsym N)) (lw_V q630 q631 q632 q83 q633) ⟨rfl, by decide +kernel⟩ 0 2 rfl rfl (he_l gW_o) rfl (Nat.le_of_ble_eq_true rfl) (Nat.le_of_ble_eq_true rfl) ⟨by omega, by omega⟩ (Nat.le_of_ble_eq_true rfl) dX0_behind_96 (fun u H locs hp hI hz => ?_)
              obtain ⟨mo2_96, sg2_96⟩ := u
              have hI := wI_w app2.symm hI
              have hI : wI E AR sR H locs (gW E adg (va_up (va_up ivg 5 c5_19) 5 (nI ((GL (ridK n K (RI P) N) n st).length))) (wrL gr2_19 0 (GL (ridK n K (RI P) N) n st)) (wrL pa2_19 0 ((GL (ridK n K (RI P) N) n st).map pairN)) mo2_96 sg2_96 (some (adr 10)) ++ (tW E adr (va_up (va_up (va_up (va_up (va_up (va_up (va_up ivr 3 (ivn 3)) 4 (ivn 4)) 5 (ivn 5)) 6 (ivn 6)) 7 (ivn 7)) 8 (ivn 8)) 9 (ivn 9)) hrn csn (sK (ridK n K (RI P) N)) ++ (xW E ad iv ch rd tp rf (hdI shI aqI) (adn 10) (adr 10) (adg 8) dy im ++ (tW E adn ivn hrn csn (sK K) ++ (laW E r_19 N (RI P) ++ (itsW (itF E aqI shI soI szI kmI bmI RI))))))) := hI
              have hI := wI_w (ws' := gW E adg (va_up ivg 5 (nI ((GL (ridK n K (RI P) N) n st).length))) (wrL gr2_19 0 (GL (ridK n K (RI P) N) n st)) (wrL pa2_19 0 ((GL (ridK n K (RI P) N) n st).map pairN)) mo2_96 sg2_96 (some (adr 10)) ++ (tW E adr (va_up (va_up (va_up (va_up (va_up (va_up (va_up ivr 3 (ivn 3)) 4 (ivn 4)) 5 (ivn 5)) 6 (ivn 6)) 7 (ivn 7)) 8 (ivn 8)) 9 (ivn 9)) hrn csn (sK (ridK n K (RI P) N)) ++ (xW E ad iv ch rd tp rf (hdI shI aqI) (adn 10) (adr 10) (adg 8) dy im ++ (tW E adn ivn hrn csn (sK K) ++ (laW E r_19 N (RI P) ++ (itsW (itF E aqI shI soI szI kmI bmI RI))))))) (by rw [(show (va_up ivg 5 (nI ((GL (ridK n K (RI P) N) n st).length))) = (va_up (va_up ivg 5 c5_19) 5 (nI ((GL (ridK n K (RI P) N) n st).length))) from (up_0).symm)]) hI
              have hI : wI E AR sR H locs (gW E adg (va_up ivg 5 (nI ((GL (ridK n K (RI P) N) n st).length))) (wrL gr2_19 0 (GL (ridK n K (RI P) N) n st)) (wrL pa2_19 0 ((GL (ridK n K (RI P) N) n st).map pairN)) mo2_96 sg2_96 (some (adr 10)) ++ (tW E adr (va_up (va_up (va_up (va_up (va_up (va_up (va_up ivr 3 (ivn 3)) 4 (ivn 4)) 5 (ivn 5)) 6 (ivn 6)) 7 (ivn 7)) 8 (ivn 8)) 9 (ivn 9)) hrn csn (sK (ridK n K (RI P) N)) ++ (xW E ad iv ch rd tp rf (hdI shI aqI) (adn 10) (adr 10) (adg 8) dy im ++ (tW E adn ivn hrn csn (sK K) ++ (laW E r_19 N (RI P) ++ (itsW (itF E aqI shI soI szI kmI bmI RI))))))) := hI
              have hI : wI E AR sR _ _ (xW E ad iv ch rd tp rf (hdI shI aqI) (adn 10) (adr 10) (adg 8) dy im ++ (gW E adg (va_up ivg 5 (nI ((GL (ridK n K (RI P) N) n st).length))) (wrL gr2_19 0 (GL (ridK n K (RI P) N) n st)) (wrL pa2_19 0 ((GL (ridK n K (RI P) N) n st).map pairN)) mo2_96 sg2_96 (some (adr 10)) ++ (tW E adn ivn hrn csn (sK K) ++ (tW E adr (va_up (va_up (va_up (va_up (va_up (va_up (va_up ivr 3 (ivn 3)) 4 (ivn 4)) 5 (ivn 5)) 6 (ivn 6)) 7 (ivn 7)) 8 (ivn 8)) 9 (ivn 9)) hrn csn (sK (ridK n K (RI P) N)) ++ (laW E r_19 N (RI P) ++ (itsW (itF E aqI shI soI szI kmI bmI RI))))))) := wI_pick ([gW E adg (va_up ivg 5 (nI ((GL (ridK n K (RI P) N) n st).length))) (wrL gr2_19 0 (GL (ridK n K (RI P) N) n st)) (wrL pa2_19 0 ((GL (ridK n K (RI P) N) n st).map pairN)) mo2_96 sg2_96 (some (adr 10)), tW E adr (va_up (va_up (va_up (va_up (va_up (va_up (va_up ivr 3 (ivn 3)) 4 (ivn 4)) 5 (ivn 5)) 6 (ivn 6)) 7 (ivn 7)) 8 (ivn 8)) 9 (ivn 9)) hrn csn (sK (ridK n K (RI P) N)), xW E ad iv ch rd tp rf (hdI shI aqI) (adn 10) (adr 10) (adg 8) dy im, tW E adn ivn hrn csn (sK K), laW E r_19 N (RI P), itsW (itF E aqI shI soI szI kmI bmI RI)]) [2, 0, 3, 1, 4, 5] 6 rfl (by decide) hI
              have hp : (∀ Z, Z < 2 ^ n → mo2_96 Z = nI (mostV (GL (ridK n K (RI P) N) n st) Z)) ∧ (∀ p, p < n → sg2_96 p = nI (strS (ridK n K (RI P) N) p n)) := hp
              obtain ⟨hmo_96, hsg_96⟩ := hp
              refine r_get hxR hbR hts hown hK hI okX2 (ci := 2) rfl (14 + 0) (he_r (Nat.le_of_ble_eq_true rfl) (Nat.le_of_ble_eq_true rfl) (he_l gW_o)) 5 (by decide) q197 rfl (v := .int (nI ((GL (ridK n K (RI P) N) n st).length))) (al va_up_s) dX0_behind_99 ?_
              generalize wrL gr2_19 0 (GL (ridK n K (RI P) N) n st) = zgr at hI
              generalize wrL pa2_19 0 ((GL (ridK n K (RI P) N) n st).map pairN) = zpa at hI
              have hI : wI E AR sR _ _ (laW E r_19 N (RI P) ++ (xW E ad iv ch rd tp rf (hdI shI aqI) (adn 10) (adr 10) (adg 8) dy im ++ (gW E adg (va_up ivg 5 (nI ((GL (ridK n K (RI P) N) n st).length))) zgr zpa mo2_96 sg2_96 (some (adr 10)) ++ (tW E adn ivn hrn csn (sK K) ++ (tW E adr (va_up (va_up (va_up (va_up (va_up (va_up (va_up ivr 3 (ivn 3)) 4 (ivn 4)) 5 (ivn 5)) 6 (ivn 6)) 7 (ivn 7)) 8 (ivn 8)) 9 (ivn 9)) hrn csn (sK (ridK n K (RI P) N)) ++ (itsW (itF E aqI shI soI szI kmI bmI RI))))))) := wI_pick ([xW E ad iv ch rd tp rf (hdI shI aqI) (adn 10) (adr 10) (adg 8) dy im, gW E adg (va_up ivg 5 (nI ((GL (ridK n K (RI P) N) n st).length))) zgr zpa mo2_96 sg2_96 (some (adr 10)), tW E adn ivn hrn csn (sK K), tW E adr (va_up (va_up (va_up (va_up (va_up (va_up (va_up ivr 3 (ivn 3)) 4 (ivn 4)) 5 (ivn 5)) 6 (ivn 6)) 7 (ivn 7)) 8 (ivn 8)) 9 (ivn 9)) hrn csn (sK (ridK n K (RI P) N)), laW E r_19 N (RI P), itsW (itF E aqI shI soI szI kmI bmI RI)]) [4, 0, 1, 2, 3, 5] 6 rfl (by decide) hI
              have hI := wI_dropL hI
              have hC : behC shI szI K RI n st (nI P) (nI N) w = 0 := by
                clear hret hI
                exact (behC_y c_3).trans hy0_19
              have erf : bumpR rf (behC shI szI K RI n st (nI P) (nI N) w) = rf := by rw [hC]; exact bump_0 _
              have hI := wI_w (ws' := xW E ad iv ch rd tp (bumpR rf (behC shI szI K RI n st (nI P) (nI N) w)) (hdI shI aqI) (adn 10) (adr 10) (adg 8) dy im ++ (gW E adg (va_up ivg 5 (nI ((GL (ridK n K (RI P) N) n st).length))) zgr zpa mo2_96 sg2_96 (some (adr 10)) ++ (tW E adn ivn hrn csn (sK K) ++ (tW E adr (va_up (va_up (va_up (va_up (va_up (va_up (va_up ivr 3 (ivn 3)) 4 (ivn 4)) 5 (ivn 5)) 6 (ivn 6)) 7 (ivn 7)) 8 (ivn 8)) 9 (ivn 9)) hrn csn (sK (ridK n K (RI P) N)) ++ (itsW (itF E aqI shI soI szI kmI bmI RI)))))) (by rw [erf]; try rfl) hI
              exact hret (mo2_96, sg2_96, zgr, zpa, some (adr 10), nI ((GL (ridK n K (RI P) N) n st).length), (va_up (va_up (va_up (va_up (va_up (va_up (va_up ivr 3 (ivn 3)) 4 (ivn 4)) 5 (ivn 5)) 6 (ivn 6)) 7 (ivn 7)) 8 (ivn 8)) 9 (ivn 9)), hrn, csn, sK (ridK n K (RI P) N)) (nI ((GL (ridK n K (RI P) N) n st).length)) _ _ (0 + 25) (0 + 1607) _ _ dX0_behind_102 hI (by show (nI ((GL (ridK n K (RI P) N) n st).length)) = gd (behC shI szI K RI n st (nI P) (nI N) w) (behV K RI n st (nI P) (nI N) w) (behC shI szI K RI n st (nI P) (nI N) w); rw [hC, gd_0]; unfold behV; simp only [nI_clamp (n := P) (by omega), nI_clamp (n := N) (by omega)]; rw [if_neg c_82, cntL_GL]) (by omega) (by omega) rfl
            · skip
              have i_82 : w.toInt = 0 := by have zz := i_eq.mp c_82; exact zz
              refine lv_iload hxR hbR dX0_behind_85 (lv_at hl 6 rfl) ?_
              refine lv_goto (tgt := 102) hxR hbR dX0_behind_87 (by decide) ?_
              have hI : wI E AR sR _ _ (laW E r_19 N (RI P) ++ (xW E ad iv ch rd tp rf (hdI shI aqI) (adn 10) (adr 10) (adg 8) dy im ++ (gW E adg (va_up ivg 5 c5_19) gr2_19 pa2_19 mo2_19 sg2_19 tn2_19 ++ (tW E adn ivn hrn csn (sK K) ++ (tW E adr (va_up (va_up (va_up (va_up (va_up (va_up (va_up ivr 3 (ivn 3)) 4 (ivn 4)) 5 (ivn 5)) 6 (ivn 6)) 7 (ivn 7)) 8 (ivn 8)) 9 (ivn 9)) hrn csn (sK (ridK n K (RI P) N)) ++ (itsW (itF E aqI shI soI szI kmI bmI RI))))))) := wI_pick ([xW E ad iv ch rd tp rf (hdI shI aqI) (adn 10) (adr 10) (adg 8) dy im, gW E adg (va_up ivg 5 c5_19) gr2_19 pa2_19 mo2_19 sg2_19 tn2_19, tW E adn ivn hrn csn (sK K), tW E adr (va_up (va_up (va_up (va_up (va_up (va_up (va_up ivr 3 (ivn 3)) 4 (ivn 4)) 5 (ivn 5)) 6 (ivn 6)) 7 (ivn 7)) 8 (ivn 8)) 9 (ivn 9)) hrn csn (sK (ridK n K (RI P) N)), laW E r_19 N (RI P), itsW (itF E aqI shI soI szI kmI bmI RI)]) [4, 0, 1, 2, 3, 5] 6 rfl (by decide) hI
              have hI := wI_dropL hI
              have hC : behC shI szI K RI n st (nI P) (nI N) w = 0 := by
                clear hret hI
                exact (behC_y c_3).trans hy0_19
              have erf : bumpR rf (behC shI szI K RI n st (nI P) (nI N) w) = rf := by rw [hC]; exact bump_0 _
              have hI := wI_w (ws' := xW E ad iv ch rd tp (bumpR rf (behC shI szI K RI n st (nI P) (nI N) w)) (hdI shI aqI) (adn 10) (adr 10) (adg 8) dy im ++ (gW E adg (va_up ivg 5 c5_19) gr2_19 pa2_19 mo2_19 sg2_19 tn2_19 ++ (tW E adn ivn hrn csn (sK K) ++ (tW E adr (va_up (va_up (va_up (va_up (va_up (va_up (va_up ivr 3 (ivn 3)) 4 (ivn 4)) 5 (ivn 5)) 6 (ivn 6)) 7 (ivn 7)) 8 (ivn 8)) 9 (ivn 9)) hrn csn (sK (ridK n K (RI P) N)) ++ (itsW (itF E aqI shI soI szI kmI bmI RI)))))) (by rw [erf]; try rfl) hI
              exact hret (mo2_19, sg2_19, gr2_19, pa2_19, tn2_19, c5_19, (va_up (va_up (va_up (va_up (va_up (va_up (va_up ivr 3 (ivn 3)) 4 (ivn 4)) 5 (ivn 5)) 6 (ivn 6)) 7 (ivn 7)) 8 (ivn 8)) 9 (ivn 9)), hrn, csn, sK (ridK n K (RI P) N)) (nI lf) _ _ (0 + 25) (0 + 1607) _ _ dX0_behind_102 hI (by show (nI lf) = gd (behC shI szI K RI n st (nI P) (nI N) w) (behV K RI n st (nI P) (nI N) w) (behC shI szI K RI n st (nI P) (nI N) w); rw [hC, gd_0]; unfold behV; simp only [nI_clamp (n := P) (by omega), nI_clamp (n := N) (by omega)]; rw [if_pos c_82, hlf, show i = N by omega]) (by omega) (by omega) rfl
          · skip
            have c_39 : i < N := Nat.lt_of_not_le (fun zz => c_39 ((n_le (a := N) (b := i) (by omega) (by omega)).mpr zz))
            refine lv_iload hxR hbR dX0_behind_42 (lv_at hl 5 rfl) ?_
            refine lv_aload hxR hbR dX0_behind_44 (lv_at hl 4 rfl) ?_
            refine lv_iload hxR hbR dX0_behind_46 (lv_at hl 6 rfl) ?_
            refine r_lald hxR hbR hK hI (14 + (5 + (4 + (4 + 0)))) (n := N) (J := i) (f := (RI P)) (v := (RI P) i) (he_r (Nat.le_of_ble_eq_true rfl) (Nat.le_of_ble_eq_true rfl) (he_r (Nat.le_of_ble_eq_true rfl) (Nat.le_of_ble_eq_true rfl) (he_r (Nat.le_of_ble_eq_true rfl) (Nat.le_of_ble_eq_true rfl) (he_r (Nat.le_of_ble_eq_true rfl) (Nat.le_of_ble_eq_true rfl) (he_l rfl))))) (by omega) (by omega) rfl dX0_behind_48 ?_
            refine lv_l2i (v := ((RI P) i).toInt32) hxR hbR dX0_behind_49 rfl ?_
            refine lv_as (y := nI (tS (RI P) i)) (tS_int (hall i c_39) (by omega)) ?_
            refine lv_iconst (v := (-1)) hxR hbR dX0_behind_50 (by decide) ?_
            refine lv_ixor hxR hbR dX0_behind_51 ?_
            refine lv_iand hxR hbR dX0_behind_52 ?_
            refine lv_as (y := nI (nd lf (tS (RI P) i))) (nb_nd lf (tS (RI P) i)) ?_
            refine lv_istore (lv' := [(5, .int (nI (nd lf (tS (RI P) i)))), (0, .ref (ad 11)), (1, .int (nI P)), (2, .int (nI N)), (3, .int w), (4, .ref r_19), (6, .int (nI i))]) hxR hbR dX0_behind_53 hl (by decide) rfl (fun ls hl => ?_)
            refine lv_iinc (v := nI (i + 1)) (lv' := [(6, .int (nI (i + 1))), (5, .int (nI (nd lf (tS (RI P) i)))), (0, .ref (ad 11)), (1, .int (nI P)), (2, .int (nI N)), (3, .int w), (4, .ref r_19)]) hxR hbR dX0_behind_55 hl (k := 6) rfl (show nI i + 1 = nI (i + 1) from nI_add _ 1) (by decide) rfl (fun ls hl => ?_)
            refine lv_goto (tgt := 36) hxR hbR dX0_behind_58 (by decide) ?_
            exact ih_36 (i + 1) (nd lf (tS (RI P) i)) (by first | omega | with_reducible assumption) (by rw [hlf, nd_nd9]; rfl) (by omega) _ _ hI _ (lv_sub hl [2, 3, 4, 5, 6, 1, 0] rfl)
      exact lp_36 _ 0 (2 ^ n - 1) (by first | omega | with_reducible assumption) (nd_z9 _).symm (Nat.lt_succ_self _) _ _ hI _ (lv_sub hl [3, 4, 5, 6, 2, 1, 0] rfl)
  · skip
    have c_3 : ¬ (Int32.toInt 0 ≤ Int32.toInt w ∧ Int32.toInt w ≤ Int32.toInt 1) := of_decide_eq_false c_3
    have c_3 : ¬ (0 ≤ w.toInt ∧ w.toInt ≤ 1) := by exact c_3
    refine lv_if_ne (tgt := 16) hxR hbR dX0_behind_6 (by decide) (fun c => absurd c (by decide)) (fun _ => ?_)
    refine lv_aload_n hxR hbR dX0_behind_9 rfl (lv_at hl 0 rfl) ?_
    refine lv_bipush (v := (-2)) hxR hbR dX0_behind_10 (by decide) ?_
    refine kVI (n := 1) (As := [.int (-2)]) (rest := []) (fun w => w ++ (gW E adg ivg grg pag mog sgg tng ++ (tW E adn ivn hrn csn (sK K) ++ (tW E adr ivr hrr csr Sr ++ (itsW (itF E aqI shI soI szI kmI bmI RI)))))) hxR hbR hmlR hts hown hK hA hl.1 (isCtx.suf _) hI (c0_no l E ad iv ch rd tp rf (hdI shI aqI) (adn 10) (adr 10) (adg 8) dy im (-2) 2 (by decide) (by decide)) (lw_V q396 q398 qs2 q81 q399) ⟨rfl, by decide +kernel⟩ 8 0 rfl rfl xW_o rfl (Nat.le_of_ble_eq_true rfl) (Nat.le_of_ble_eq_true rfl) ⟨by omega, by omega⟩ (Nat.le_of_ble_eq_true rfl) dX0_behind_12 (fun r_12 u H locs hp hI hz => ?_)
    have hI : wI E AR sR H locs (xW E ad iv ch rd tp (va_up rf 2 (rf 2 + 1)) (hdI shI aqI) (adn 10) (adr 10) (adg 8) dy im ++ (gW E adg ivg grg pag mog sgg tng ++ (tW E adn ivn hrn csn (sK K) ++ (tW E adr ivr hrr csr Sr ++ (itsW (itF E aqI shI soI szI kmI bmI RI)))))) := hI
    have hp : r_12 = (-2) := hp
    have hr_12 := hp
    subst hr_12
    have hC : behC shI szI K RI n st x k w = (-2) := by
      clear hret hI
      exact behC_n c_3
    have erf : bumpR rf (behC shI szI K RI n st x k w) = va_up rf 2 (rf 2 + 1) := by rw [hC]; exact bump_2 _
    have hI := wI_w (ws' := xW E ad iv ch rd tp (bumpR rf (behC shI szI K RI n st x k w)) (hdI shI aqI) (adn 10) (adr 10) (adg 8) dy im ++ (gW E adg (va_up ivg 5 (ivg 5)) grg pag mog sgg tng ++ (tW E adn ivn hrn csn (sK K) ++ (tW E adr ivr hrr csr Sr ++ (itsW (itF E aqI shI soI szI kmI bmI RI)))))) (by rw [erf, va_up_id (f := ivg) (k := 5) (v := ivg 5) rfl]; try rfl) hI
    exact hret (mog, sgg, grg, pag, tng, ivg 5, ivr, hrr, csr, Sr) (-2) _ _ 0 0 _ _ dX0_behind_15 hI (by show (-2) = gd (behC shI szI K RI n st x k w) (behV K RI n st x k w) (behC shI szI K RI n st x k w); rw [hC]; first | rfl | (simp only [gd_0]; split <;> first | rfl | contradiction)) (by omega) (by omega) rfl
