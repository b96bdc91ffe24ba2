abbrev sDef : List Value := [.null, .null, .null, .int 0, .int 0, .null]

theorem c15_sure (l : Launch) (E : En) (ads : Nat → Nat) (ivs : Nat → Int32) (o1s : Nat → Int32) (o2s : Nat → Int32) (ofs : Nat → Int32) (ths : Nat) (L : List (Nat × Nat)) (Wf : Nat → Nat) (hc3 : ivs 3 = nI L.length) (hl10 : L.length ≤ 10) (hP2 : pr2 L o1s o2s) (hO : (∀ k, k < L.length → ofs k = nI (Wf k))) (hW : (∀ k, Wf k ≤ 1024)) (hL8 : (∀ k, k < L.length → (L.getD k (0, 0)).1 < 8 ∧ (L.getD k (0, 0)).2 < 8)) : CtI l E yX15_sure cX15_sure 3 .int 1 0 0 [.ref (ads 6)] (sW E ads ivs o1s o2s ofs ths) (fun (r : Int32) (u : Unit) => r = if L.length = 0 then -1 else nI (10 * (L.getD (bsF Wf L.length) (0, 0)).1 + (L.getD (bsF Wf L.length) (0, 0)).2)) (fun (u : Unit) => sW E ads ivs o1s o2s ofs ths) := by
  refine CtI.of (by decide +kernel) (Nat.le_of_ble_eq_true rfl) ?_
  intro pR eR sR mR aR bR tR cR AR ls QR hxR hbR hmlR hts hown hlk hnm hA hK hI hl hret
  have hl : lv_has ls 3 [(0, .ref (ads 6))] := hl
  refine lv_iconst (v := 0) hxR hbR dX15_sure_0 (by decide) ?_
  refine lv_istore_n (lv' := [(1, .int 0), (0, .ref (ads 6))]) hxR hbR dX15_sure_1 rfl hl (by decide) rfl (fun ls hl => ?_)
  refine lv_iconst (v := 1) hxR hbR dX15_sure_2 (by decide) ?_
  refine lv_istore_n (lv' := [(2, .int 1), (1, .int 0), (0, .ref (ads 6))]) hxR hbR dX15_sure_3 rfl hl (by decide) rfl (fun ls hl => ?_)
  have lp_4 : ∀ (fu : Nat) (b : Nat) (k : Nat), (1 ≤ k ∧ (k ≤ L.length ∨ k = 1)) → (b = bsF Wf k) → (b < k) → L.length - k < fu → ∀ (H : Heap) (locs : List Loc), wI E AR sR H locs (sW E ads ivs o1s o2s ofs ths) → ∀ ls : Array Slot, lv_has ls 3 [(0, .ref (ads 6)), (1, .int (nI b)), (2, .int (nI k))] → W pR l eR (rmF 1 0 0) sR mR aR bR tR cR H locs 0 0 QR (F0 mR 4 ls []) := by
    intro fu
    induction fu with
    | zero =>
      intro b k hk hb hbk hfu
      exact absurd hfu (Nat.not_lt_zero _)
    | succ fu ih_4 =>
      intro b k hk hb hbk hfu H locs hI ls hl
      refine lv_iload_n hxR hbR dX15_sure_4 rfl (lv_at hl 2 rfl) ?_
      refine lv_aload_n hxR hbR dX15_sure_5 rfl (lv_at hl 0 rfl) ?_
      refine r_get hxR hbR hts hown hK hI okX15 (ci := 14) rfl 0 sW_o 3 (by decide) q1364 rfl (v := .int (nI L.length)) (al hc3) dX15_sure_6 ?_
      refine lv_icmp_ge (tgt := 39) hxR hbR dX15_sure_9 (by decide) (fun c_9 => ?_) (fun c_9 => ?_)
      · skip
        have c_9 : L.length ≤ k := (n_le (a := L.length) (b := k) (by omega) (by omega)).mp c_9
        refine lv_aload_n hxR hbR dX15_sure_39 rfl (lv_at hl 0 rfl) ?_
        refine r_get hxR hbR hts hown hK hI okX15 (ci := 14) rfl 0 sW_o 3 (by decide) q1364 rfl (v := .int (nI L.length)) (al hc3) dX15_sure_40 ?_
        refine lv_if_ne (tgt := 50) hxR hbR dX15_sure_43 (by decide) (fun c_43 => ?_) (fun c_43 => ?_)
        · skip
          have c_43 : ¬ L.length = 0 := fun zz => c_43 ((n_eq (a := L.length) (b := 0) (by omega) (by decide)).mpr zz)
          have hbl : b < L.length := by omega
          have hL9 := hL8 b hbl
          have hbe : (bsF Wf L.length) = b := by rw [hb, show k = L.length by omega]
          refine lv_bipush (v := 10) hxR hbR dX15_sure_50 (by decide) ?_
          refine lv_aload_n hxR hbR dX15_sure_52 rfl (lv_at hl 0 rfl) ?_
          refine r_get hxR hbR hts hown hK hI okX15 (ci := 14) rfl 0 sW_o 0 (by decide) q1361 rfl (v := .ref (ads 0)) rfl dX15_sure_53 ?_
          refine lv_iload_n hxR hbR dX15_sure_56 rfl (lv_at hl 1 rfl) ?_
          refine r_iald hxR hbR hK hI 1 (n := 10) (J := b) (f := o1s) (v := nI ((L.getD b (0, 0)).1)) (sW_g0 rfl) (by omega) (by decide) (hP2 _ (by omega)).1 dX15_sure_57 ?_
          refine lv_imul hxR hbR dX15_sure_58 ?_
          refine lv_as (y := nI (10 * ((L.getD b (0, 0)).1))) (pk_mul 10 ((L.getD b (0, 0)).1)) ?_
          refine lv_aload_n hxR hbR dX15_sure_59 rfl (lv_at hl 0 rfl) ?_
          refine r_get hxR hbR hts hown hK hI okX15 (ci := 14) rfl 0 sW_o 1 (by decide) q1362 rfl (v := .ref (ads 1)) rfl dX15_sure_60 ?_
          refine lv_iload_n hxR hbR dX15_sure_63 rfl (lv_at hl 1 rfl) ?_
          refine r_iald hxR hbR hK hI 2 (n := 10) (J := b) (f := o2s) (v := nI ((L.getD b (0, 0)).2)) (sW_g1 rfl) (by omega) (by decide) (hP2 _ (by omega)).2 dX15_sure_64 ?_
          refine lv_iadd hxR hbR dX15_sure_65 ?_
          refine lv_as (y := nI ((10 * ((L.getD b (0, 0)).1)) + ((L.getD b (0, 0)).2))) (nI_add (10 * ((L.getD b (0, 0)).1)) ((L.getD b (0, 0)).2)) ?_
          exact hret () (nI ((10 * ((L.getD b (0, 0)).1)) + ((L.getD b (0, 0)).2))) _ _ _ _ _ _ dX15_sure_66 hI (by show (nI ((10 * ((L.getD b (0, 0)).1)) + ((L.getD b (0, 0)).2))) = if L.length = 0 then -1 else nI (10 * (L.getD (bsF Wf L.length) (0, 0)).1 + (L.getD (bsF Wf L.length) (0, 0)).2); first | (rw [if_pos c_43]) | (rw [if_neg c_43, hbe])) (Nat.le_of_ble_eq_true rfl) (Nat.le_of_ble_eq_true rfl) rfl
        · skip
          have c_43 : L.length = 0 := (n_eq (a := L.length) (b := 0) (by omega) (by decide)).mp c_43
          refine lv_iconst (v := (-1)) hxR hbR dX15_sure_46 (by decide) ?_
          refine lv_goto (tgt := 66) hxR hbR dX15_sure_47 (by decide) ?_
          exact hret () (-1) _ _ _ _ _ _ dX15_sure_66 hI (by show (-1) = if L.length = 0 then -1 else nI (10 * (L.getD (bsF Wf L.length) (0, 0)).1 + (L.getD (bsF Wf L.length) (0, 0)).2); first | (rw [if_pos c_43]) | (rw [if_neg c_43, hbe])) (Nat.le_of_ble_eq_true rfl) (Nat.le_of_ble_eq_true rfl) rfl
      · skip
        have c_9 : k < L.length := Nat.lt_of_not_le (fun zz => c_9 ((n_le (a := L.length) (b := k) (by omega) (by omega)).mpr zz))
        refine lv_aload_n hxR hbR dX15_sure_12 rfl (lv_at hl 0 rfl) ?_
        refine r_get hxR hbR hts hown hK hI okX15 (ci := 14) rfl 0 sW_o 2 (by decide) q1363 rfl (v := .ref (ads 2)) rfl dX15_sure_13 ?_
        refine lv_iload_n hxR hbR dX15_sure_16 rfl (lv_at hl 2 rfl) ?_
        refine r_iald hxR hbR hK hI 3 (n := 10) (J := k) (f := ofs) (v := nI (Wf k)) (sW_g2 rfl) (by omega) (by decide) (hO _ (by omega)) dX15_sure_17 ?_
        refine lv_aload_n hxR hbR dX15_sure_18 rfl (lv_at hl 0 rfl) ?_
        refine r_get hxR hbR hts hown hK hI okX15 (ci := 14) rfl 0 sW_o 2 (by decide) q1363 rfl (v := .ref (ads 2)) rfl dX15_sure_19 ?_
        refine lv_iload_n hxR hbR dX15_sure_22 rfl (lv_at hl 1 rfl) ?_
        refine r_iald hxR hbR hK hI 3 (n := 10) (J := b) (f := ofs) (v := nI (Wf b)) (sW_g2 rfl) (by omega) (by decide) (hO _ (by omega)) dX15_sure_23 ?_
        refine lv_icmp_le (tgt := 31) hxR hbR dX15_sure_24 (by decide) (fun c_24 => ?_) (fun c_24 => ?_)
        · skip
          have c_24 : (Wf k) ≤ (Wf b) := (n_le (a := (Wf k)) (b := (Wf b)) (by have := hW k; omega) (by have := hW b; omega)).mp c_24
          refine lv_iload_n hxR hbR dX15_sure_31 rfl (lv_at hl 1 rfl) ?_
          refine lv_istore_n (lv' := [(1, .int (nI b)), (0, .ref (ads 6)), (2, .int (nI k))]) hxR hbR dX15_sure_32 rfl hl (by decide) rfl (fun ls hl => ?_)
          refine lv_iinc (v := nI (k + 1)) (lv' := [(2, .int (nI (k + 1))), (1, .int (nI b)), (0, .ref (ads 6))]) hxR hbR dX15_sure_33 hl (k := 2) rfl (show nI k + 1 = nI (k + 1) from nI_add _ 1) (by decide) rfl (fun ls hl => ?_)
          refine lv_goto (tgt := 4) hxR hbR dX15_sure_36 (by decide) ?_
          exact ih_4 b (k + 1) ⟨by omega, by omega⟩ (by first | (rw [bsF, ← hb]; exact (if_neg (by omega)).symm) | (rw [bsF, ← hb]; exact (if_pos (by omega)).symm)) (by first | omega | with_reducible assumption) (by omega) _ _ hI _ (lv_sub hl [2, 1, 0] rfl)
        · skip
          have c_24 : (Wf b) < (Wf k) := Nat.lt_of_not_le (fun zz => c_24 ((n_le (a := (Wf k)) (b := (Wf b)) (by have := hW k; omega) (by have := hW b; omega)).mpr zz))
          refine lv_iload_n hxR hbR dX15_sure_27 rfl (lv_at hl 2 rfl) ?_
          refine lv_goto (tgt := 32) hxR hbR dX15_sure_28 (by decide) ?_
          refine lv_istore_n (lv' := [(1, .int (nI k)), (0, .ref (ads 6)), (2, .int (nI k))]) hxR hbR dX15_sure_32 rfl hl (by decide) rfl (fun ls hl => ?_)
          refine lv_iinc (v := nI (k + 1)) (lv' := [(2, .int (nI (k + 1))), (1, .int (nI k)), (0, .ref (ads 6))]) hxR hbR dX15_sure_33 hl (k := 2) rfl (show nI k + 1 = nI (k + 1) from nI_add _ 1) (by decide) rfl (fun ls hl => ?_)
          refine lv_goto (tgt := 4) hxR hbR dX15_sure_36 (by decide) ?_
          exact ih_4 k (k + 1) ⟨by omega, by omega⟩ (by first | (rw [bsF, ← hb]; exact (if_neg (by omega)).symm) | (rw [bsF, ← hb]; exact (if_pos (by omega)).symm)) (by first | omega | with_reducible assumption) (by omega) _ _ hI _ (lv_sub hl [2, 1, 0] rfl)
  exact lp_4 _ 0 1 ⟨Nat.le_refl 1, Or.inr rfl⟩ (bsF_1 _).symm (by first | omega | with_reducible assumption) (Nat.lt_succ_self _) _ _ hI _ (lv_sub hl [2, 1, 0] rfl)

theorem c0_fits (l : Launch) (E : En) (ad : Nat → Nat) (iv : Nat → Int32) (ch : Nat → Int32) (rd : Nat → Int32) (tp : Nat → Int32) (rf : Nat → Int32) (hd : Nat → Option Nat) (gr : Nat) (dy : Nat) (im : Option Nat) (adn : Nat → Nat) (ivn : Nat → Int32) (hrn : Nat → Int32) (csn : Nat → Int32) (adr : Nat → Nat) (ivr : Nat → Int32) (hrr : Nat → Int32) (csr : Nat → Int32) (Sr : Nat → Int32) (K : Nat → Nat → Int32) (n st : Nat) (x : Int32) (hn : ivn 3 = nI n) (hst : ivn 4 = nI st) (hn7 : n ≤ 7) (hs2 : 2 ≤ st) (hs4 : st ≤ 4) (hsym : kSym K n) : CtI l E yX0_fits cX0_fits 2 .int 18 4 36 [.ref (ad 11), .int x] (xW E ad iv ch rd tp rf hd (adn 10) (adr 10) gr dy im ++ (tW E adn ivn hrn csn (sK K) ++ (tW E adr ivr hrr csr Sr))) (fun (r : Int32) (u : (Nat → Int32) × (Nat → Int32) × (Nat → Int32) × (Nat → Int32)) => r = gd (fewC n x) (fitsV K n st x.toNatClampNeg) (fewC n x)) (fun (u : (Nat → Int32) × (Nat → Int32) × (Nat → Int32) × (Nat → Int32)) => xW E ad iv ch rd tp (bumpR rf (fewC n x)) hd (adn 10) (adr 10) gr dy im ++ (tW E adn ivn hrn csn (sK K) ++ (tW E adr u.1 u.2.1 u.2.2.1 u.2.2.2))) := by
  have h28 : 2 ^ n ≤ 2 ^ 7 := Nat.pow_le_pow_right (by decide) hn7
  refine CtI.of (by decide +kernel) (Nat.le_of_ble_eq_true rfl) ?_
  intro pR eR sR mR aR bR tR cR AR ls QR hxR hbR hmlR hts hown hlk hnm hA hK hI hl hret
  have hl : lv_has ls 2 [(0, .ref (ad 11)), (1, .int x)] := hl
  refine lv_aload_n hxR hbR dX0_fits_0 rfl (lv_at hl 0 rfl) ?_
  refine lv_iload_n hxR hbR dX0_fits_1 rfl (lv_at hl 1 rfl) ?_
  have hI := wI_w app2 hI
  refine kVI (n := 1) (As := [.int x]) (rest := []) (fun w => w ++ (tW E adr ivr hrr csr Sr)) hxR hbR hmlR hts hown hK hA hl.1 (isCtx.suf _) hI (c0_isFew l E ad iv ch rd tp rf hd (adr 10) gr dy im adn ivn hrn csn K n x hn (by first | omega | with_reducible assumption)) (lw_V q1337 q1339 qs28 q81 q1340) ⟨rfl, by decide +kernel⟩ 8 0 rfl rfl (he_l xW_o) rfl (Nat.le_of_ble_eq_true rfl) (Nat.le_of_ble_eq_true rfl) ⟨Nat.le_of_ble_eq_true rfl, Nat.le_of_ble_eq_true rfl⟩ (Nat.le_of_ble_eq_true rfl) dX0_fits_2 (fun r_2 u H locs hp hI hz => ?_)
  have hI := wI_w app2.symm hI
  have hI : wI E AR sR H locs (xW E ad iv ch rd tp rf hd (adn 10) (adr 10) gr dy im ++ (tW E adn ivn hrn csn (sK K) ++ (tW E adr ivr hrr csr Sr))) := hI
  have hp : r_2 = b2i (decide ((0 ≤ x.toInt ∧ x.toInt < ((2 ^ n : Nat) : Int)) ∧ bitsN x.toNatClampNeg 8 ≤ 5)) := hp
  have hr_2 := hp
  rcases b2i_cases hr_2 with ⟨c_2, rfl⟩ | ⟨c_2, rfl⟩
  · skip
    have c_2 : (0 ≤ Int32.toInt x ∧ Int32.toInt x < ((2 ^ n : Nat) : Int)) ∧ bitsN x.toNatClampNeg 8 ≤ 5 := of_decide_eq_true c_2
    obtain ⟨P, hP, rfl⟩ := nat_of c_2.1 (by omega)
    have tP : (nI P).toInt = (P : Int) := nI_toInt (by omega)
    have hb5 : bitsN P 8 ≤ 5 := by have h9 := c_2.2; rw [nI_clamp (by omega)] at h9; exact h9
    refine lv_if_eq (tgt := 23) hxR hbR dX0_fits_5 (by decide) (fun c => absurd c (by decide)) (fun _ => ?_)
    refine r_new (fs := sDef) hxR hbR hts hown hA hK hI okX15 (ci := 14) rfl q1341 q1342 q116 (by decide +kernel) (Nat.le_of_ble_eq_true rfl) (Nat.le_of_ble_eq_true rfl) dX0_fits_8 (fun q_8 H hI => ?_)
    have hI := wI_w app3.symm hI
    have hI : wI E AR sR H _ (xW E ad iv ch rd tp rf hd (adn 10) (adr 10) gr dy im ++ (tW E adn ivn hrn csn (sK K) ++ (tW E adr ivr hrr csr Sr ++ ([(q_8, .inr (14, sDef))])))) := hI
    refine lv_dup hxR hbR dX0_fits_11 rfl ?_
    refine lv_aload_n hxR hbR dX0_fits_12 rfl (lv_at hl 0 rfl) ?_
    refine lv_iload_n hxR hbR dX0_fits_13 rfl (lv_at hl 1 rfl) ?_
    have hI : wI E AR sR _ _ ([(q_8, .inr (14, sDef))] ++ (xW E ad iv ch rd tp rf hd (adn 10) (adr 10) gr dy im ++ (tW E adn ivn hrn csn (sK K) ++ (tW E adr ivr hrr csr Sr)))) := wI_pick ([xW E ad iv ch rd tp rf hd (adn 10) (adr 10) gr dy im, tW E adn ivn hrn csn (sK K), tW E adr ivr hrr csr Sr, [(q_8, .inr (14, sDef))]]) [3, 0, 1, 2] 4 rfl (by decide) hI
    refine kIV (n := 2) (As := [.ref (ad 11), .int (nI P)]) (rest := [.ref q_8]) (fun w => w) hxR hbR hmlR hts hown hK hA hl.1 isCtx.id hI (c15_init l E q_8 ad iv ch rd tp rf hd gr dy im adn ivn hrn csn adr ivr hrr csr Sr K n st P hn hst (by first | omega | with_reducible assumption) (by first | omega | with_reducible assumption) (by first | omega | with_reducible assumption) (by first | omega | with_reducible assumption) (by first | omega | with_reducible assumption) hb5) q1345 q116 q1343 q1344 rfl (by decide +kernel) rfl (Nat.le_of_ble_eq_true rfl) (Nat.le_of_ble_eq_true rfl) ⟨Nat.le_of_ble_eq_true rfl, Nat.le_of_ble_eq_true rfl⟩ (Nat.le_of_ble_eq_true rfl) dX0_fits_14 (fun u H locs hp hI hz => ?_)
    obtain ⟨ads_14, o1x_14, o2x_14, ofx_14, ivr2_14, hrr2_14, csr2_14, Sr2_14⟩ := u
    have hI : wI E AR sR H locs (xW E ad iv ch rd tp rf hd (adn 10) (adr 10) gr dy im ++ (tW E adn ivn hrn csn (sK K) ++ (tW E adr ivr2_14 hrr2_14 csr2_14 Sr2_14 ++ (sW E ads_14 (va_up (va_up siv0 3 (nI ((prL K P n).length))) 4 (nI (wyN K P n st (2 ^ (prL K P n).length)))) o1x_14 o2x_14 ofx_14 (ad 11))))) := hI
    have hp : ads_14 6 = q_8 ∧ pr2 (prL K P n) o1x_14 o2x_14 ∧ ∀ k, k < (prL K P n).length → ofx_14 k = nI (wyC K P n st k (2 ^ (prL K P n).length)) := hp
    obtain ⟨ho6_14, hq2_14, hqw_14⟩ := hp
    rw [← ho6_14]
    refine r_get hxR hbR hts hown hK hI okX15 (ci := 14) rfl (14 + (4 + (4 + 0))) (he_r (Nat.le_of_ble_eq_true rfl) (Nat.le_of_ble_eq_true rfl) (he_r (Nat.le_of_ble_eq_true rfl) (Nat.le_of_ble_eq_true rfl) (he_r (Nat.le_of_ble_eq_true rfl) (Nat.le_of_ble_eq_true rfl) sW_o))) 4 (by decide) q1366 rfl (v := .int (nI (wyN K P n st (2 ^ (prL K P n).length)))) (al va_up_s) dX0_fits_17 ?_
    have hI : wI E AR sR _ _ (sW E ads_14 (va_up (va_up siv0 3 (nI ((prL K P n).length))) 4 (nI (wyN K P n st (2 ^ (prL K P n).length)))) o1x_14 o2x_14 ofx_14 (ad 11) ++ (xW E ad iv ch rd tp rf hd (adn 10) (adr 10) gr dy im ++ (tW E adn ivn hrn csn (sK K) ++ (tW E adr ivr2_14 hrr2_14 csr2_14 Sr2_14)))) := wI_pick ([xW E ad iv ch rd tp rf hd (adn 10) (adr 10) gr dy im, tW E adn ivn hrn csn (sK K), tW E adr ivr2_14 hrr2_14 csr2_14 Sr2_14, sW E ads_14 (va_up (va_up siv0 3 (nI ((prL K P n).length))) 4 (nI (wyN K P n st (2 ^ (prL K P n).length)))) o1x_14 o2x_14 ofx_14 (ad 11)]) [3, 0, 1, 2] 4 rfl (by decide) hI
    have hI := wI_dropL hI
    refine lv_goto (tgt := 29) hxR hbR dX0_fits_20 (by decide) ?_
    have hC : fewC n (nI P) = 0 := by
      clear hret hI
      unfold fewC; rw [nI_clamp (n := P) (by omega)]; exact if_pos ⟨c_2.1, hb5⟩
    have erf : bumpR rf (fewC n (nI P)) = rf := by rw [hC]; exact bump_0 _
    have hI := wI_w (ws' := xW E ad iv ch rd tp (bumpR rf (fewC n (nI P))) hd (adn 10) (adr 10) gr dy im ++ (tW E adn ivn hrn csn (sK K) ++ (tW E adr ivr2_14 hrr2_14 csr2_14 Sr2_14))) (by rw [erf]; try rfl) hI
    exact hret (ivr2_14, hrr2_14, csr2_14, Sr2_14) (nI (wyN K P n st (2 ^ (prL K P n).length))) _ _ (0 + 1 + 3) (0 + 6 + 30) _ _ dX0_fits_29 hI (by show (nI (wyN K P n st (2 ^ (prL K P n).length))) = gd (fewC n (nI P)) (fitsV K n st (nI P).toNatClampNeg) (fewC n (nI P)); rw [hC, gd_0]; simp only [nI_clamp (n := P) (by omega)]; rfl) (Nat.le_of_ble_eq_true rfl) (Nat.le_of_ble_eq_true rfl) rfl
  · skip
    have c_2 : ¬ ((0 ≤ Int32.toInt x ∧ Int32.toInt x < ((2 ^ n : Nat) : Int)) ∧ bitsN x.toNatClampNeg 8 ≤ 5) := of_decide_eq_false c_2
    refine lv_if_eq (tgt := 23) hxR hbR dX0_fits_5 (by decide) (fun _ => ?_) (fun c => absurd c (by decide))
    refine lv_aload_n hxR hbR dX0_fits_23 rfl (lv_at hl 0 rfl) ?_
    refine lv_bipush (v := (-2)) hxR hbR dX0_fits_24 (by decide) ?_
    refine kVI (n := 1) (As := [.int (-2)]) (rest := []) (fun w => w ++ (tW E adn ivn hrn csn (sK K) ++ (tW E adr ivr hrr csr Sr))) hxR hbR hmlR hts hown hK hA hl.1 (isCtx.suf _) hI (c0_no l E ad iv ch rd tp rf hd (adn 10) (adr 10) gr dy im (-2) 2 (by decide) (by decide)) (lw_V q396 q398 qs2 q81 q399) ⟨rfl, by decide +kernel⟩ 8 0 rfl rfl xW_o rfl (Nat.le_of_ble_eq_true rfl) (Nat.le_of_ble_eq_true rfl) ⟨Nat.le_of_ble_eq_true rfl, Nat.le_of_ble_eq_true rfl⟩ (Nat.le_of_ble_eq_true rfl) dX0_fits_26 (fun r_26 u H locs hp hI hz => ?_)
    have hI : wI E AR sR H locs (xW E ad iv ch rd tp (va_up rf 2 (rf 2 + 1)) hd (adn 10) (adr 10) gr dy im ++ (tW E adn ivn hrn csn (sK K) ++ (tW E adr ivr hrr csr Sr))) := hI
    have hp : r_26 = (-2) := hp
    have hr_26 := hp
    subst hr_26
    have hC : fewC n x = (-2) := by
      clear hret hI
      unfold fewC; exact if_neg (fun z => c_2 z)
    have erf : bumpR rf (fewC n x) = va_up rf 2 (rf 2 + 1) := by rw [hC]; exact bump_2 _
    have hI := wI_w (ws' := xW E ad iv ch rd tp (bumpR rf (fewC n x)) hd (adn 10) (adr 10) gr dy im ++ (tW E adn ivn hrn csn (sK K) ++ (tW E adr ivr hrr csr Sr))) (by rw [erf]; try rfl) hI
    exact hret (ivr, hrr, csr, Sr) (-2) _ _ 0 0 _ _ dX0_fits_29 hI (by show (-2) = gd (fewC n x) (fitsV K n st x.toNatClampNeg) (fewC n x); rw [hC]; first | rfl | (simp only [gd_0]; split <;> first | rfl | contradiction)) (Nat.le_of_ble_eq_true rfl) (Nat.le_of_ble_eq_true rfl) rfl

theorem c0_sure (l : Launch) (E : En) (ad : Nat → Nat) (iv : Nat → Int32) (ch : Nat → Int32) (rd : Nat → Int32) (tp : Nat → Int32) (rf : Nat → Int32) (hd : Nat → Option Nat) (gr : Nat) (dy : Nat) (im : Option Nat) (adn : Nat → Nat) (ivn : Nat → Int32) (hrn : Nat → Int32) (csn : Nat → Int32) (adr : Nat → Nat) (ivr : Nat → Int32) (hrr : Nat → Int32) (csr : Nat → Int32) (Sr : Nat → Int32) (K : Nat → Nat → Int32) (n st : Nat) (x : Int32) (hn : ivn 3 = nI n) (hst : ivn 4 = nI st) (hn7 : n ≤ 7) (hs2 : 2 ≤ st) (hs4 : st ≤ 4) (hsym : kSym K n) : CtI l E yX0_sure cX0_sure 3 .int 18 4 36 [.ref (ad 11), .int x] (xW E ad iv ch rd tp rf hd (adn 10) (adr 10) gr dy im ++ (tW E adn ivn hrn csn (sK K) ++ (tW E adr ivr hrr csr Sr))) (fun (r : Int32) (u : (Nat → Int32) × (Nat → Int32) × (Nat → Int32) × (Nat → Int32)) => r = gd (sureC K n x) (sureV K n st x.toNatClampNeg) (sureC K n x)) (fun (u : (Nat → Int32) × (Nat → Int32) × (Nat → Int32) × (Nat → Int32)) => xW E ad iv ch rd tp (bumpR rf (sureC K n x)) hd (adn 10) (adr 10) gr dy im ++ (tW E adn ivn hrn csn (sK K) ++ (tW E adr u.1 u.2.1 u.2.2.1 u.2.2.2))) := by
  have h28 : 2 ^ n ≤ 2 ^ 7 := Nat.pow_le_pow_right (by decide) hn7
  refine CtI.of (by decide +kernel) (Nat.le_of_ble_eq_true rfl) ?_
  intro pR eR sR mR aR bR tR cR AR ls QR hxR hbR hmlR hts hown hlk hnm hA hK hI hl hret
  have hl : lv_has ls 3 [(0, .ref (ad 11)), (1, .int x)] := hl
  refine lv_aload_n hxR hbR dX0_sure_0 rfl (lv_at hl 0 rfl) ?_
  refine lv_iload_n hxR hbR dX0_sure_1 rfl (lv_at hl 1 rfl) ?_
  have hI := wI_w app2 hI
  refine kVI (n := 1) (As := [.int x]) (rest := []) (fun w => w ++ (tW E adr ivr hrr csr Sr)) hxR hbR hmlR hts hown hK hA hl.1 (isCtx.suf _) hI (c0_isFew l E ad iv ch rd tp rf hd (adr 10) gr dy im adn ivn hrn csn K n x hn (by first | omega | with_reducible assumption)) (lw_V q1337 q1339 qs28 q81 q1340) ⟨rfl, by decide +kernel⟩ 8 0 rfl rfl (he_l xW_o) rfl (Nat.le_of_ble_eq_true rfl) (Nat.le_of_ble_eq_true rfl) ⟨Nat.le_of_ble_eq_true rfl, Nat.le_of_ble_eq_true rfl⟩ (Nat.le_of_ble_eq_true rfl) dX0_sure_2 (fun r_2 u H locs hp hI hz => ?_)
  have hI := wI_w app2.symm hI
  have hI : wI E AR sR H locs (xW E ad iv ch rd tp rf hd (adn 10) (adr 10) gr dy im ++ (tW E adn ivn hrn csn (sK K) ++ (tW E adr ivr hrr csr Sr))) := hI
  have hp : r_2 = b2i (decide ((0 ≤ x.toInt ∧ x.toInt < ((2 ^ n : Nat) : Int)) ∧ bitsN x.toNatClampNeg 8 ≤ 5)) := hp
  have hr_2 := hp
  rcases b2i_cases hr_2 with ⟨c_2, rfl⟩ | ⟨c_2, rfl⟩
  · skip
    have c_2 : (0 ≤ Int32.toInt x ∧ Int32.toInt x < ((2 ^ n : Nat) : Int)) ∧ bitsN x.toNatClampNeg 8 ≤ 5 := of_decide_eq_true c_2
    obtain ⟨P, hP, rfl⟩ := nat_of c_2.1 (by omega)
    have tP : (nI P).toInt = (P : Int) := nI_toInt (by omega)
    have hb5 : bitsN P 8 ≤ 5 := by have h9 := c_2.2; rw [nI_clamp (by omega)] at h9; exact h9
    refine lv_if_ne (tgt := 15) hxR hbR dX0_sure_5 (by decide) (fun _ => ?_) (fun c => absurd c (by decide))
    refine r_new (fs := sDef) hxR hbR hts hown hA hK hI okX15 (ci := 14) rfl q1341 q1342 q116 (by decide +kernel) (Nat.le_of_ble_eq_true rfl) (Nat.le_of_ble_eq_true rfl) dX0_sure_15 (fun q_15 H hI => ?_)
    have hI := wI_w app3.symm hI
    have hI : wI E AR sR H _ (xW E ad iv ch rd tp rf hd (adn 10) (adr 10) gr dy im ++ (tW E adn ivn hrn csn (sK K) ++ (tW E adr ivr hrr csr Sr ++ ([(q_15, .inr (14, sDef))])))) := hI
    refine lv_dup hxR hbR dX0_sure_18 rfl ?_
    refine lv_aload_n hxR hbR dX0_sure_19 rfl (lv_at hl 0 rfl) ?_
    refine lv_iload_n hxR hbR dX0_sure_20 rfl (lv_at hl 1 rfl) ?_
    have hI : wI E AR sR _ _ ([(q_15, .inr (14, sDef))] ++ (xW E ad iv ch rd tp rf hd (adn 10) (adr 10) gr dy im ++ (tW E adn ivn hrn csn (sK K) ++ (tW E adr ivr hrr csr Sr)))) := wI_pick ([xW E ad iv ch rd tp rf hd (adn 10) (adr 10) gr dy im, tW E adn ivn hrn csn (sK K), tW E adr ivr hrr csr Sr, [(q_15, .inr (14, sDef))]]) [3, 0, 1, 2] 4 rfl (by decide) hI
    refine kIV (n := 2) (As := [.ref (ad 11), .int (nI P)]) (rest := [.ref q_15]) (fun w => w) hxR hbR hmlR hts hown hK hA hl.1 isCtx.id hI (c15_init l E q_15 ad iv ch rd tp rf hd gr dy im adn ivn hrn csn adr ivr hrr csr Sr K n st P hn hst (by first | omega | with_reducible assumption) (by first | omega | with_reducible assumption) (by first | omega | with_reducible assumption) (by first | omega | with_reducible assumption) (by first | omega | with_reducible assumption) hb5) q1345 q116 q1343 q1344 rfl (by decide +kernel) rfl (Nat.le_of_ble_eq_true rfl) (Nat.le_of_ble_eq_true rfl) ⟨Nat.le_of_ble_eq_true rfl, Nat.le_of_ble_eq_true rfl⟩ (Nat.le_of_ble_eq_true rfl) dX0_sure_21 (fun u H locs hp hI hz => ?_)
    obtain ⟨ads_21, o1x_21, o2x_21, ofx_21, ivr2_21, hrr2_21, csr2_21, Sr2_21⟩ := u
    have hI : wI E AR sR H locs (xW E ad iv ch rd tp rf hd (adn 10) (adr 10) gr dy im ++ (tW E adn ivn hrn csn (sK K) ++ (tW E adr ivr2_21 hrr2_21 csr2_21 Sr2_21 ++ (sW E ads_21 (va_up (va_up siv0 3 (nI ((prL K P n).length))) 4 (nI (wyN K P n st (2 ^ (prL K P n).length)))) o1x_21 o2x_21 ofx_21 (ad 11))))) := hI
    have hp : ads_21 6 = q_15 ∧ pr2 (prL K P n) o1x_21 o2x_21 ∧ ∀ k, k < (prL K P n).length → ofx_21 k = nI (wyC K P n st k (2 ^ (prL K P n).length)) := hp
    obtain ⟨ho6_21, hq2_21, hqw_21⟩ := hp
    rw [← ho6_21]
    have hI := wI_w app3 hI
    refine kVI (n := 0) (As := []) (rest := []) (fun w => (xW E ad iv ch rd tp rf hd (adn 10) (adr 10) gr dy im ++ (tW E adn ivn hrn csn (sK K) ++ (tW E adr ivr2_21 hrr2_21 csr2_21 Sr2_21))) ++ w) hxR hbR hmlR hts hown hK hA hl.1 (isCtx.pre _) hI (c15_sure l E ads_21 (va_up (va_up siv0 3 (nI ((prL K P n).length))) 4 (nI (wyN K P n st (2 ^ (prL K P n).length)))) o1x_21 o2x_21 ofx_21 (ad 11) (prL K P n) (fun k => wyC K P n st k (2 ^ (prL K P n).length)) (up_n (by decide) va_up_s) (pr_10 (by omega) hb5 hn7 (Nat.le_refl n)) hq2_21 hqw_21 (fun k => Nat.le_trans (wyC_le _) (Nat.pow_le_pow_right (n := 2) (by decide) (pr_10 (by omega) hb5 hn7 (Nat.le_refl n)))) (fun k hk => by have := pr_mem hk; omega)) (lw_V q1385 q1386 q1387 q116 q1388) ⟨rfl, by decide +kernel⟩ 0 14 rfl rfl sW_o rfl (Nat.le_of_ble_eq_true rfl) (Nat.le_of_ble_eq_true rfl) ⟨Nat.le_of_ble_eq_true rfl, Nat.le_of_ble_eq_true rfl⟩ (Nat.le_of_ble_eq_true rfl) dX0_sure_24 (fun r_24 u H locs hp hI hz => ?_)
    have hI := wI_w app3.symm hI
    have hI : wI E AR sR H locs (xW E ad iv ch rd tp rf hd (adn 10) (adr 10) gr dy im ++ (tW E adn ivn hrn csn (sK K) ++ (tW E adr ivr2_21 hrr2_21 csr2_21 Sr2_21 ++ (sW E ads_21 (va_up (va_up siv0 3 (nI ((prL K P n).length))) 4 (nI (wyN K P n st (2 ^ (prL K P n).length)))) o1x_21 o2x_21 ofx_21 (ad 11))))) := hI
    have hp : r_24 = if (prL K P n).length = 0 then -1 else nI (10 * ((prL K P n).getD (bsF (fun k => wyC K P n st k (2 ^ (prL K P n).length)) (prL K P n).length) (0, 0)).1 + ((prL K P n).getD (bsF (fun k => wyC K P n st k (2 ^ (prL K P n).length)) (prL K P n).length) (0, 0)).2) := hp
    have hr_24 := hp
    subst hr_24
    have hI : wI E AR sR _ _ (sW E ads_21 (va_up (va_up siv0 3 (nI ((prL K P n).length))) 4 (nI (wyN K P n st (2 ^ (prL K P n).length)))) o1x_21 o2x_21 ofx_21 (ad 11) ++ (xW E ad iv ch rd tp rf hd (adn 10) (adr 10) gr dy im ++ (tW E adn ivn hrn csn (sK K) ++ (tW E adr ivr2_21 hrr2_21 csr2_21 Sr2_21)))) := wI_pick ([xW E ad iv ch rd tp rf hd (adn 10) (adr 10) gr dy im, tW E adn ivn hrn csn (sK K), tW E adr ivr2_21 hrr2_21 csr2_21 Sr2_21, sW E ads_21 (va_up (va_up siv0 3 (nI ((prL K P n).length))) 4 (nI (wyN K P n st (2 ^ (prL K P n).length)))) o1x_21 o2x_21 ofx_21 (ad 11)]) [3, 0, 1, 2] 4 rfl (by decide) hI
    have hI := wI_dropL hI
    by_cases c_27 : (prL K P n).length = 0
    · skip
      refine lv_as (y := (-1)) (if_pos c_27) ?_
      refine lv_istore_n (lv' := [(2, .int (-1)), (0, .ref (ad 11)), (1, .int (nI P))]) hxR hbR dX0_sure_27 rfl hl (by decide) rfl (fun ls hl => ?_)
      refine lv_iload_n hxR hbR dX0_sure_28 rfl (lv_at hl 0 rfl) ?_
      refine lv_iconst (v := (-1)) hxR hbR dX0_sure_29 (by decide) ?_
      refine lv_icmp_ne (tgt := 42) hxR hbR dX0_sure_30 (by decide) (fun c => absurd c (by decide)) (fun _ => ?_)
      refine lv_aload_n hxR hbR dX0_sure_33 rfl (lv_at hl 1 rfl) ?_
      refine lv_bipush (v := (-5)) hxR hbR dX0_sure_34 (by decide) ?_
      refine kVI (n := 1) (As := [.int (-5)]) (rest := []) (fun w => w ++ (tW E adn ivn hrn csn (sK K) ++ (tW E adr ivr2_21 hrr2_21 csr2_21 Sr2_21))) hxR hbR hmlR hts hown hK hA hl.1 (isCtx.suf _) hI (c0_no l E ad iv ch rd tp rf hd (adn 10) (adr 10) gr dy im (-5) 5 (by decide) (by decide)) (lw_V q396 q398 qs2 q81 q399) ⟨rfl, by decide +kernel⟩ 8 0 rfl rfl xW_o rfl (Nat.le_of_ble_eq_true rfl) (Nat.le_of_ble_eq_true rfl) ⟨Nat.le_of_ble_eq_true rfl, Nat.le_of_ble_eq_true rfl⟩ (Nat.le_of_ble_eq_true rfl) dX0_sure_36 (fun r_36 u H locs hp hI hz => ?_)
      have hI : wI E AR sR H locs (xW E ad iv ch rd tp (va_up rf 5 (rf 5 + 1)) hd (adn 10) (adr 10) gr dy im ++ (tW E adn ivn hrn csn (sK K) ++ (tW E adr ivr2_21 hrr2_21 csr2_21 Sr2_21))) := hI
      have hp : r_36 = (-5) := hp
      have hr_36 := hp
      subst hr_36
      refine lv_goto (tgt := 43) hxR hbR dX0_sure_39 (by decide) ?_
      have hC : sureC K n (nI P) = (-5) := by
        clear hret hI
        unfold sureC; rw [nI_clamp (n := P) (by omega), if_pos ⟨c_2.1, hb5⟩]; exact if_pos c_27
      have erf : bumpR rf (sureC K n (nI P)) = va_up rf 5 (rf 5 + 1) := by rw [hC]; exact bump_5 _
      have hI := wI_w (ws' := xW E ad iv ch rd tp (bumpR rf (sureC K n (nI P))) hd (adn 10) (adr 10) gr dy im ++ (tW E adn ivn hrn csn (sK K) ++ (tW E adr ivr2_21 hrr2_21 csr2_21 Sr2_21))) (by rw [erf]; try rfl) hI
      exact hret (ivr2_21, hrr2_21, csr2_21, Sr2_21) (-5) _ _ (0 + 1 + 3) (0 + 6 + 30) _ _ dX0_sure_43 hI (by show (-5) = gd (sureC K n (nI P)) (sureV K n st (nI P).toNatClampNeg) (sureC K n (nI P)); rw [hC]; first | rfl | (simp only [nI_clamp (n := P) (by omega)]; rfl) | (simp only [gd_0, nI_clamp (n := P) (by omega)]; split <;> first | rfl | contradiction)) (Nat.le_of_ble_eq_true rfl) (Nat.le_of_ble_eq_true rfl) rfl
    · skip
      refine lv_as (y := nI (10 * ((prL K P n).getD (bsF (fun k => wyC K P n st k (2 ^ (prL K P n).length)) (prL K P n).length) (0, 0)).1 + ((prL K P n).getD (bsF (fun k => wyC K P n st k (2 ^ (prL K P n).length)) (prL K P n).length) (0, 0)).2)) (if_neg c_27) ?_
      have hm9 := pr_mem (K := K) (S := P) (n := n) (k := (bsF (fun k => wyC K P n st k (2 ^ (prL K P n).length)) (prL K P n).length)) (bsF_lt _ (Nat.pos_of_ne_zero c_27))
      refine lv_istore_n (lv' := [(2, .int (nI (10 * ((prL K P n).getD (bsF (fun k => wyC K P n st k (2 ^ (prL K P n).length)) (prL K P n).length) (0, 0)).1 + ((prL K P n).getD (bsF (fun k => wyC K P n st k (2 ^ (prL K P n).length)) (prL K P n).length) (0, 0)).2))), (0, .ref (ad 11)), (1, .int (nI P))]) hxR hbR dX0_sure_27 rfl hl (by decide) rfl (fun ls hl => ?_)
      refine lv_iload_n hxR hbR dX0_sure_28 rfl (lv_at hl 0 rfl) ?_
      refine lv_iconst (v := (-1)) hxR hbR dX0_sure_29 (by decide) ?_
      refine lv_icmp_ne (tgt := 42) hxR hbR dX0_sure_30 (by decide) (fun c_30 => ?_) (fun c_30 => ?_)
      · skip
        have i_30 : ¬ ((10 * ((prL K P n).getD (bsF (fun k => wyC K P n st k (2 ^ (prL K P n).length)) (prL K P n).length) (0, 0)).1 + ((prL K P n).getD (bsF (fun k => wyC K P n st k (2 ^ (prL K P n).length)) (prL K P n).length) (0, 0)).2 : Int) = (-1)) := by have zz := mt i_eq.mpr c_30; rw [nI_toInt (n := 10 * ((prL K P n).getD (bsF (fun k => wyC K P n st k (2 ^ (prL K P n).length)) (prL K P n).length) (0, 0)).1 + ((prL K P n).getD (bsF (fun k => wyC K P n st k (2 ^ (prL K P n).length)) (prL K P n).length) (0, 0)).2) (by omega)] at zz; exact zz
        refine lv_iload_n hxR hbR dX0_sure_42 rfl (lv_at hl 0 rfl) ?_
        have hC : sureC K n (nI P) = 0 := by
          clear hret hI
          unfold sureC; rw [nI_clamp (n := P) (by omega), if_pos ⟨c_2.1, hb5⟩]; exact if_neg c_27
        have erf : bumpR rf (sureC K n (nI P)) = rf := by rw [hC]; exact bump_0 _
        have hI := wI_w (ws' := xW E ad iv ch rd tp (bumpR rf (sureC K n (nI P))) hd (adn 10) (adr 10) gr dy im ++ (tW E adn ivn hrn csn (sK K) ++ (tW E adr ivr2_21 hrr2_21 csr2_21 Sr2_21))) (by rw [erf]; try rfl) hI
        exact hret (ivr2_21, hrr2_21, csr2_21, Sr2_21) (nI (10 * ((prL K P n).getD (bsF (fun k => wyC K P n st k (2 ^ (prL K P n).length)) (prL K P n).length) (0, 0)).1 + ((prL K P n).getD (bsF (fun k => wyC K P n st k (2 ^ (prL K P n).length)) (prL K P n).length) (0, 0)).2)) _ _ (0 + 1 + 3) (0 + 6 + 30) _ _ dX0_sure_43 hI (by show (nI (10 * ((prL K P n).getD (bsF (fun k => wyC K P n st k (2 ^ (prL K P n).length)) (prL K P n).length) (0, 0)).1 + ((prL K P n).getD (bsF (fun k => wyC K P n st k (2 ^ (prL K P n).length)) (prL K P n).length) (0, 0)).2)) = gd (sureC K n (nI P)) (sureV K n st (nI P).toNatClampNeg) (sureC K n (nI P)); rw [hC, gd_0]; simp only [nI_clamp (n := P) (by omega)]; rfl) (Nat.le_of_ble_eq_true rfl) (Nat.le_of_ble_eq_true rfl) rfl
      · skip
        have i_30 : (10 * ((prL K P n).getD (bsF (fun k => wyC K P n st k (2 ^ (prL K P n).length)) (prL K P n).length) (0, 0)).1 + ((prL K P n).getD (bsF (fun k => wyC K P n st k (2 ^ (prL K P n).length)) (prL K P n).length) (0, 0)).2 : Int) = (-1) := by have zz := i_eq.mp c_30; rw [nI_toInt (n := 10 * ((prL K P n).getD (bsF (fun k => wyC K P n st k (2 ^ (prL K P n).length)) (prL K P n).length) (0, 0)).1 + ((prL K P n).getD (bsF (fun k => wyC K P n st k (2 ^ (prL K P n).length)) (prL K P n).length) (0, 0)).2) (by omega)] at zz; exact zz
        exfalso
        exact nI_m1' (by omega) c_30
  · skip
    have c_2 : ¬ ((0 ≤ Int32.toInt x ∧ Int32.toInt x < ((2 ^ n : Nat) : Int)) ∧ bitsN x.toNatClampNeg 8 ≤ 5) := of_decide_eq_false c_2
    refine lv_if_ne (tgt := 15) hxR hbR dX0_sure_5 (by decide) (fun c => absurd c (by decide)) (fun _ => ?_)
    refine lv_aload_n hxR hbR dX0_sure_8 rfl (lv_at hl 0 rfl) ?_
    refine lv_bipush (v := (-2)) hxR hbR dX0_sure_9 (by decide) ?_
    refine kVI (n := 1) (As := [.int (-2)]) (rest := []) (fun w => w ++ (tW E adn ivn hrn csn (sK K) ++ (tW E adr ivr hrr csr Sr))) hxR hbR hmlR hts hown hK hA hl.1 (isCtx.suf _) hI (c0_no l E ad iv ch rd tp rf hd (adn 10) (adr 10) gr dy im (-2) 2 (by decide) (by decide)) (lw_V q396 q398 qs2 q81 q399) ⟨rfl, by decide +kernel⟩ 8 0 rfl rfl xW_o rfl (Nat.le_of_ble_eq_true rfl) (Nat.le_of_ble_eq_true rfl) ⟨Nat.le_of_ble_eq_true rfl, Nat.le_of_ble_eq_true rfl⟩ (Nat.le_of_ble_eq_true rfl) dX0_sure_11 (fun r_11 u H locs hp hI hz => ?_)
    have hI : wI E AR sR H locs (xW E ad iv ch rd tp (va_up rf 2 (rf 2 + 1)) hd (adn 10) (adr 10) gr dy im ++ (tW E adn ivn hrn csn (sK K) ++ (tW E adr ivr hrr csr Sr))) := hI
    have hp : r_11 = (-2) := hp
    have hr_11 := hp
    subst hr_11
    have hC : sureC K n x = (-2) := by
      clear hret hI
      unfold sureC; exact if_neg (fun z => c_2 z)
    have erf : bumpR rf (sureC K n x) = va_up rf 2 (rf 2 + 1) := by rw [hC]; exact bump_2 _
    have hI := wI_w (ws' := xW E ad iv ch rd tp (bumpR rf (sureC K n x)) hd (adn 10) (adr 10) gr dy im ++ (tW E adn ivn hrn csn (sK K) ++ (tW E adr ivr hrr csr Sr))) (by rw [erf]; try rfl) hI
    exact hret (ivr, hrr, csr, Sr) (-2) _ _ 0 0 _ _ dX0_sure_14 hI (by show (-2) = gd (sureC K n x) (sureV K n st x.toNatClampNeg) (sureC K n x); rw [hC]; first | rfl | (simp only [gd_0]; split <;> first | rfl | contradiction)) (Nat.le_of_ble_eq_true rfl) (Nat.le_of_ble_eq_true rfl) rfl
