theorem man_castY {s : State} {H : Heap} {q kd v : Nat} (hX : XW s) (hr : isA s H q (manNm kd)) (h1 : 1 ≤ kd) (h5 : kd ≤ 5) (v1 : 1 ≤ v) (v5 : v ≤ 5) : isUndV kd v = true → iA (manNm kd) (manNm v) true s := by
  obtain ⟨cell, -, -, h3⟩ := hr
  revert h3
  refine kd_5 (P := fun kd => s.vm.findClass (manNm kd) = some cell.cls → isUndV kd v = true → iA (manNm kd) (manNm v) true s) h1 h5 ?_ ?_ ?_ ?_ ?_
  all_goals
    intro h3
    refine kd_5 (P := fun v => isUndV _ v = true → iA (manNm _) (manNm v) true s) v1 v5 ?_ ?_ ?_ ?_ ?_
    all_goals first
      | exact fun hu => absurd hu (by decide)
      | exact fun _ => iA.rf h3
      | exact fun _ => iA.yes hX q2071
      | exact fun _ => iA.yes hX q2073
      | exact fun _ => iA.yes hX q2072
theorem man_castN {s : State} {kd v : Nat} (hX : XW s) (h1 : 1 ≤ kd) (h5 : kd ≤ 5) (v1 : 1 ≤ v) (v5 : v ≤ 5) : isUndV kd v = false → iA (manNm kd) (manNm v) false s := by
  refine kd_5 (P := fun kd => isUndV kd v = false → iA (manNm kd) (manNm v) false s) h1 h5 ?_ ?_ ?_ ?_ ?_
  all_goals
    refine kd_5 (P := fun v => isUndV _ v = false → iA (manNm _) (manNm v) false s) v1 v5 ?_ ?_ ?_ ?_ ?_
    all_goals first
      | exact fun hu => absurd hu (by decide)
      | exact fun _ => va_Nc.iA (iA.no hX (by decide +kernel))
theorem row_castN {so v : Nat} (h : so ≤ 4) (v1 : 1 ≤ v) (v5 : v ≤ 5) : ncB (rowNm so) (manNm v) = true := by
  refine so_5 (P := fun so => ncB (rowNm so) (manNm v) = true) h ?_ ?_ ?_ ?_ ?_
  all_goals exact kd_5 (P := fun v => ncB (rowNm _) (manNm v) = true) v1 v5 (by decide +kernel) (by decide +kernel) (by decide +kernel) (by decide +kernel) (by decide +kernel)
theorem pk_man {kd : Nat} (h1 : 1 ≤ kd) (h5 : kd ≤ 5) : packageOf (manNm kd) ∈ castPackages_1 ∧ (dotted (manNm kd)).toList.length ≤ 30 :=
  kd_5 (P := fun kd => packageOf (manNm kd) ∈ castPackages_1 ∧ (dotted (manNm kd)).toList.length ≤ 30) h1 h5 (by decide +kernel) (by decide +kernel) (by decide +kernel) (by decide +kernel) (by decide +kernel)
theorem pk_row {so : Nat} (h : so ≤ 4) : packageOf (rowNm so) ∈ castPackages_1 ∧ (dotted (rowNm so)).toList.length ≤ 30 :=
  so_5 (P := fun so => packageOf (rowNm so) ∈ castPackages_1 ∧ (dotted (rowNm so)).toList.length ≤ 30) h (by decide +kernel) (by decide +kernel) (by decide +kernel) (by decide +kernel) (by decide +kernel)
theorem pk_7 : packageOf RX7 ∈ castPackages_1 ∧ (dotted RX7).toList.length ≤ 30 := by decide +kernel
section MG
variable {p : Program} {l : Launch} {e : Env} {R : Room} {s : State} {m : MethodId} {args : Array Value} {below : List Frame} {meth : Method} {c : Code} {H : Heap} {locs : List Loc} {cells slots : Nat} {Q : State → Prop} {cc : ByteArray} {pc : Nat} {ls : Array Slot} {rest : List Value} {E : En} {A : Nat → Prop} {ws ws1 : va_W} {a : Nat}
theorem r_manget (hexec : p.tables.exec = Jvm.exec) (hb : c.code = cc) {own : String} {index kd : Nat} {x : Int32} (hts : ∀ w ∈ lw_all, w.before args s = true) (hown : s.vm.findClass own = some m.cls) (hK : KX E A s) (hI : wI E A s H locs ws) (h1 : 1 ≤ kd) (h5 : kd ≤ 5) (q0 : Nat) (he : ws[q0]? = some (a, .inr (6 + kd, [.int x]))) (hlink : Cond.fieldLink own index RX7 "a" "I" ∈ lw_all) (hdg : decode cc pc = .ok (.getfield index, 3))
    (kk : W p l e R s m args below meth c H locs cells slots Q (F0 m (pc + 3) ls (.int x :: rest))) : W p l e R s m args below meth c H locs cells slots Q (F0 m pc ls (.ref a :: rest)) := by
  revert he
  refine kd_5 (P := fun kd => ws[q0]? = some (a, .inr (6 + kd, [.int x])) → W p l e R s m args below meth c H locs cells slots Q (F0 m pc ls (.ref a :: rest))) h1 h5 ?_ ?_ ?_ ?_ ?_
  · exact fun he => r_get hexec hb hts hown hK hI okX8 (ci := 7) rfl q0 he 0 (by decide) hlink rfl rfl hdg kk
  · exact fun he => r_get hexec hb hts hown hK hI okX9 (ci := 8) rfl q0 he 0 (by decide) hlink rfl rfl hdg kk
  · exact fun he => r_get hexec hb hts hown hK hI okX10 (ci := 9) rfl q0 he 0 (by decide) hlink rfl rfl hdg kk
  · exact fun he => r_get hexec hb hts hown hK hI okX11 (ci := 10) rfl q0 he 0 (by decide) hlink rfl rfl hdg kk
  · exact fun he => r_get hexec hb hts hown hK hI okX12 (ci := 11) rfl q0 he 0 (by decide) hlink rfl rfl hdg kk
end MG

theorem c0_says (l : Launch) (E : En) (ad : Nat → Nat) (iv : Nat → Int32) (ch : Nat → Int32) (rd : Nat → Int32) (tp : Nat → Int32) (rf : Nat → Int32) (tr : Nat) (dy : Nat) (im : Option Nat) (adg : Nat → Nat) (ivg : Nat → Int32) (grg : Nat → Int32) (pag : Nat → Int32) (mog : Nat → Int32) (sgg : Nat → Int32) (tng : Option Nat) (adn : Nat → Nat) (ivn : Nat → Int32) (hrn : Nat → Int32) (csn : Nat → Int32) (aqI : Nat → Nat) (shI : Nat → Int32) (soI : Nat → Int32) (szI : Nat → Int32) (kmI : Nat → Int32) (bmI : Nat → Int32) (RI : Nat → Nat → Int64) (K : Nat → Nat → Int32) (n st : Nat) (x k : Int32) (hlt : l.stackTraces = false) (hn : ivn 3 = nI n) (hst : ivn 4 = nI st) (hn7 : n ≤ 7) (hs2 : 2 ≤ st) (hs4 : st ≤ 4) (hsym : kSym K n) (hsh : ∀ P, P < 8 → shI P = 0 ∨ shI P = 1 ∨ shI P = 2) (hso : ∀ P, P < 8 → ∃ k, k ≤ 4 ∧ soI P = nI k) (hsz : ∀ P, P < 8 → ∃ k, k ≤ 40 ∧ szI P = nI k) (hkm : ∀ P, P < 8 → shI P = 2 → ∃ k, 1 ≤ k ∧ k ≤ 5 ∧ kmI P = nI k) (hbm : ∀ P, P < 8 → ∃ k, k < 100 ∧ bmI P = nI k) : XtI l E yX0_says (wsW_ yX0_says cX0_says 5 (some FieldType.int) [(44, 87, 133, 169), (88, 96, 133, 169), (97, 105, 133, 169), (106, 114, 133, 169), (115, 123, 133, 169), (124, 132, 133, 169)]) 107 3 1010 [.ref (ad 11), .int x, .int k] (xW E ad iv ch rd tp rf (hdI shI aqI) (adn 10) tr (adg 8) dy im ++ (gW E adg ivg grg pag mog sgg tng ++ (tW E adn ivn hrn csn (sK K) ++ (itsW (itF E aqI shI soI szI kmI bmI RI))))) (fun (r : Int32) (u : (Nat → Int32) × (Nat → Int32) × (Nat → Int32) × (Nat → Int32) × (Option Nat) × Int32) => r = gd (saysC shI kmI x k) (saysV kmI bmI K csn n st x k) (saysC shI kmI x k)) (fun (u : (Nat → Int32) × (Nat → Int32) × (Nat → Int32) × (Nat → Int32) × (Option Nat) × Int32) => xW E ad iv ch rd tp (bumpR rf (saysC shI kmI x k)) (hdI shI aqI) (adn 10) tr (adg 8) dy im ++ (gW E adg (va_up ivg 5 u.2.2.2.2.2) u.2.2.1 u.2.2.2.1 u.1 u.2.1 u.2.2.2.2.1 ++ (tW E adn ivn hrn csn (sK K) ++ (itsW (itF E aqI shI soI szI kmI bmI RI))))) (fun (_ : String) (_ : Unit) => False) (fun (_ : Unit) (_ : Nat) => []) := by
  have h28 : 2 ^ n ≤ 2 ^ 7 := Nat.pow_le_pow_right (by decide) hn7
  refine XtI.ofH (by decide +kernel) (Nat.le_of_ble_eq_true rfl) ?_
  intro pR eR sR mR aR bR tR cR AR ls QR hxR hbR hmlR hts hown hlk hnm hA hK hI hl htab hret hthr
  have hl : lv_has ls 5 [(0, .ref (ad 11)), (1, .int x), (2, .int k)] := hl
  refine lv_iload_n hxR hbR dX0_says_0 rfl (lv_at hl 1 rfl) ?_
  refine kSI (n := 1) (As := [.int x]) (rest := []) (fun w => w ++ (xW E ad iv ch rd tp rf (hdI shI aqI) (adn 10) tr (adg 8) dy im ++ (gW E adg ivg grg pag mog sgg tng ++ (tW E adn ivn hrn csn (sK K) ++ (itsW (itF E aqI shI soI szI kmI bmI RI)))))) hxR hbR hmlR hts hown hK hA hl.1 (isCtx.suf _) hI (c0_isShelf l E  x ) (lw_S q390 q391 q81 q392) (by decide +kernel) rfl (Nat.le_of_ble_eq_true rfl) (Nat.le_of_ble_eq_true rfl) ⟨Nat.le_of_ble_eq_true rfl, Nat.le_of_ble_eq_true rfl⟩ (Nat.le_of_ble_eq_true rfl) dX0_says_1 (fun r_1 u H locs hp hI hz => ?_)
  have hI : wI E AR sR H locs (xW E ad iv ch rd tp rf (hdI shI aqI) (adn 10) tr (adg 8) dy im ++ (gW E adg ivg grg pag mog sgg tng ++ (tW E adn ivn hrn csn (sK K) ++ (itsW (itF E aqI shI soI szI kmI bmI RI))))) := hI
  have hp : r_1 = b2i (decide (0 ≤ x.toInt ∧ x.toInt ≤ 7)) := hp
  have hr_1 := hp
  rcases b2i_cases hr_1 with ⟨c_1, rfl⟩ | ⟨c_1, rfl⟩
  · skip
    have c_1 : 0 ≤ Int32.toInt x ∧ Int32.toInt x ≤ 7 := of_decide_eq_true c_1
    obtain ⟨P, hP, rfl⟩ := nat7 c_1
    have tP : (nI P).toInt = (P : Int) := nI_toInt (by omega)
    refine lv_if_eq (tgt := 16) hxR hbR dX0_says_4 (by decide) (fun c => absurd c (by decide)) (fun _ => ?_)
    refine lv_iload_n hxR hbR dX0_says_7 rfl (lv_at hl 2 rfl) ?_
    refine lv_iconst (v := 0) hxR hbR dX0_says_8 (by decide) ?_
    refine lv_iconst (v := 5) hxR hbR dX0_says_9 (by decide) ?_
    refine kSI (n := 3) (As := [.int k, .int 0, .int 5]) (rest := []) (fun w => w ++ (xW E ad iv ch rd tp rf (hdI shI aqI) (adn 10) tr (adg 8) dy im ++ (gW E adg ivg grg pag mog sgg tng ++ (tW E adn ivn hrn csn (sK K) ++ (itsW (itF E aqI shI soI szI kmI bmI RI)))))) hxR hbR hmlR hts hown hK hA hl.1 (isCtx.suf _) hI (c0_isIn l E  k 0 5 ) (lw_S q393 q394 q81 q395) (by decide +kernel) rfl (Nat.le_of_ble_eq_true rfl) (Nat.le_of_ble_eq_true rfl) ⟨Nat.le_of_ble_eq_true rfl, Nat.le_of_ble_eq_true rfl⟩ (Nat.le_of_ble_eq_true rfl) dX0_says_10 (fun r_10 u H locs hp hI hz => ?_)
    have hI : wI E AR sR H locs (xW E ad iv ch rd tp rf (hdI shI aqI) (adn 10) tr (adg 8) dy im ++ (gW E adg ivg grg pag mog sgg tng ++ (tW E adn ivn hrn csn (sK K) ++ (itsW (itF E aqI shI soI szI kmI bmI RI))))) := hI
    have hp : r_10 = b2i (decide (Int32.toInt 0 ≤ Int32.toInt k ∧ Int32.toInt k ≤ Int32.toInt 5)) := hp
    have hr_10 := hp
    rcases b2i_cases hr_10 with ⟨c_10, rfl⟩ | ⟨c_10, rfl⟩
    · skip
      have c_10 : Int32.toInt 0 ≤ Int32.toInt k ∧ Int32.toInt k ≤ Int32.toInt 5 := of_decide_eq_true c_10
      have c_10 : 0 ≤ k.toInt ∧ k.toInt ≤ 5 := by exact c_10
      obtain ⟨k0, hk0, rfl⟩ := nat_le_of (m := 5) c_10.1 c_10.2
      have tk0 : (nI k0).toInt = (k0 : Int) := nI_toInt (by omega)
      refine lv_if_ne (tgt := 23) hxR hbR dX0_says_13 (by decide) (fun _ => ?_) (fun c => absurd c (by decide))
      refine lv_aload_n hxR hbR dX0_says_23 rfl (lv_at hl 0 rfl) ?_
      refine r_get hxR hbR hts hown hK hI okX0 (ci := 0) rfl 8 (he_l xW_o) 7 (by decide) q271 rfl (v := .ref (ad 7)) rfl dX0_says_24 ?_
      refine lv_iload_n hxR hbR dX0_says_27 rfl (lv_at hl 1 rfl) ?_
      refine r_aald hxR hbR hK hI 11 7 (r := ad (20 + P)) rfl rfl (n := 8) (J := P) (he_l rfl) hP (by decide) rfl dX0_says_28 ?_
      rcases hsh P hP with c_h | c_h | c_h
      · skip
        refine r_get hxR hbR hts hown hK hI okX4 (ci := 4) rfl P (he_l (xW_s P hP)) 0 (by decide) q258 rfl (v := .null) (congrArg (fun z => some (va_rf z)) (hdI_0 (by rw [c_h]; decide) (by rw [c_h]; decide))) dX0_says_29 ?_
        refine lv_astore_nN (lv' := [(3, .null), (0, .ref (ad 11)), (1, .int (nI P)), (2, .int (nI k0))]) hxR hbR dX0_says_32 rfl hl (by decide) rfl (fun ls hl => ?_)
        refine lv_aload_nN hxR hbR dX0_says_33 rfl (lv_at hl 0 rfl) ?_
        refine lv_ifnonnullN hxR hbR dX0_says_34 ?_
        refine lv_aload_n hxR hbR dX0_says_37 rfl (lv_at hl 1 rfl) ?_
        refine lv_bipush (v := (-4)) hxR hbR dX0_says_38 (by decide) ?_
        refine kVI (n := 1) (As := [.int (-4)]) (rest := []) (fun w => w ++ (gW E adg ivg grg pag mog sgg tng ++ (tW E adn ivn hrn csn (sK K) ++ (itsW (itF E aqI shI soI szI kmI bmI RI))))) hxR hbR hmlR hts hown hK hA hl.1 (isCtx.suf _) hI (c0_no l E ad iv ch rd tp rf (hdI shI aqI) (adn 10) tr (adg 8) dy im (-4) 4 (by decide) (by decide)) (lw_V q396 q398 qs2 q81 q399) ⟨rfl, by decide +kernel⟩ 8 0 rfl rfl xW_o rfl (Nat.le_of_ble_eq_true rfl) (Nat.le_of_ble_eq_true rfl) ⟨Nat.le_of_ble_eq_true rfl, Nat.le_of_ble_eq_true rfl⟩ (Nat.le_of_ble_eq_true rfl) dX0_says_40 (fun r_40 u H locs hp hI hz => ?_)
        have hI : wI E AR sR H locs (xW E ad iv ch rd tp (va_up rf 4 (rf 4 + 1)) (hdI shI aqI) (adn 10) tr (adg 8) dy im ++ (gW E adg ivg grg pag mog sgg tng ++ (tW E adn ivn hrn csn (sK K) ++ (itsW (itF E aqI shI soI szI kmI bmI RI))))) := hI
        have hp : r_40 = (-4) := hp
        have hr_40 := hp
        subst hr_40
        have hC : saysC shI kmI (nI P) (nI k0) = (-4) := by
          clear hret hI
          unfold saysC; rw [if_pos ⟨c_1, c_10⟩, nI_clamp (n := P) (by omega), nI_clamp (n := k0) (by omega)]; rw [if_neg (fun z => z.elim (fun q => absurd (c_h.symm.trans q) (by decide)) (fun q => absurd (c_h.symm.trans q.1) (by decide)))]; exact if_pos c_h
        have erf : bumpR rf (saysC shI kmI (nI P) (nI k0)) = va_up rf 4 (rf 4 + 1) := by rw [hC]; exact bump_4 _
        have hI := wI_w (ws' := xW E ad iv ch rd tp (bumpR rf (saysC shI kmI (nI P) (nI k0))) (hdI shI aqI) (adn 10) tr (adg 8) dy im ++ (gW E adg (va_up ivg 5 (ivg 5)) grg pag mog sgg tng ++ (tW E adn ivn hrn csn (sK K) ++ (itsW (itF E aqI shI soI szI kmI bmI RI))))) (by rw [erf, va_up_id (f := ivg) (k := 5) (v := ivg 5) rfl]; try rfl) hI
        exact hret (mog, sgg, grg, pag, tng, ivg 5) (-4) _ _ 0 0 _ _ dX0_says_43 hI (by show (-4) = gd (saysC shI kmI (nI P) (nI k0)) (saysV kmI bmI K csn n st (nI P) (nI k0)) (saysC shI kmI (nI P) (nI k0)); rw [hC]; first | rfl | (simp only [nI_clamp (n := P) (by omega), nI_clamp (n := k0) (by omega)]; rfl) | (simp only [gd_0, nI_clamp (n := P) (by omega), nI_clamp (n := k0) (by omega)]; split <;> first | rfl | contradiction)) (Nat.le_of_ble_eq_true rfl) (Nat.le_of_ble_eq_true rfl) rfl
      · skip
        refine r_get hxR hbR hts hown hK hI okX4 (ci := 4) rfl P (he_l (xW_s P hP)) 0 (by decide) q258 rfl (v := .ref (aqI P)) (congrArg (fun z => some (va_rf z)) (hdI_1 c_h)) dX0_says_29 ?_
        have hI : wI E AR sR _ _ (itsW (itF E aqI shI soI szI kmI bmI RI) ++ (xW E ad iv ch rd tp rf (hdI shI aqI) (adn 10) tr (adg 8) dy im ++ (gW E adg ivg grg pag mog sgg tng ++ (tW E adn ivn hrn csn (sK K))))) := wI_pick ([xW E ad iv ch rd tp rf (hdI shI aqI) (adn 10) tr (adg 8) dy im, gW E adg ivg grg pag mog sgg tng, tW E adn ivn hrn csn (sK K), itsW (itF E aqI shI soI szI kmI bmI RI)]) [3, 0, 1, 2] 4 rfl (by decide) hI
        obtain ⟨zo, hzo, hzo9⟩ := hso P hP
        obtain ⟨zn, hzn, hzn9⟩ := hsz P hP
        have hI := its_out (f := itF E aqI shI soI szI kmI bmI RI) hP (itF_row c_h hzo9 hzn9 (by omega) (by omega)) hI
        have hI : wI E AR sR _ _ (rowW E (aqI P) zo zn (RI P) ++ (itsX (itF E aqI shI soI szI kmI bmI RI) P ++ (xW E ad iv ch rd tp rf (hdI shI aqI) (adn 10) tr (adg 8) dy im ++ (gW E adg ivg grg pag mog sgg tng ++ (tW E adn ivn hrn csn (sK K)))))) := hI
        have hI : wI E AR sR _ _ (xW E ad iv ch rd tp rf (hdI shI aqI) (adn 10) tr (adg 8) dy im ++ (gW E adg ivg grg pag mog sgg tng ++ (tW E adn ivn hrn csn (sK K) ++ (rowW E (aqI P) zo zn (RI P) ++ (itsX (itF E aqI shI soI szI kmI bmI RI) P))))) := wI_pick ([rowW E (aqI P) zo zn (RI P), itsX (itF E aqI shI soI szI kmI bmI RI) P, xW E ad iv ch rd tp rf (hdI shI aqI) (adn 10) tr (adg 8) dy im, gW E adg ivg grg pag mog sgg tng, tW E adn ivn hrn csn (sK K)]) [2, 3, 4, 0, 1] 5 rfl (by decide) hI
        refine lv_astore_n (lv' := [(3, .ref (aqI P)), (0, .ref (ad 11)), (1, .int (nI P)), (2, .int (nI k0))]) hxR hbR dX0_says_32 rfl hl (by decide) rfl (fun ls hl => ?_)
        refine lv_aload_n hxR hbR dX0_says_33 rfl (lv_at hl 0 rfl) ?_
        refine lv_ifnonnull (tgt := 44) hxR hbR dX0_says_34 (by decide) ?_
        refine lv_iload_n hxR hbR dX0_says_44 rfl (lv_at hl 3 rfl) ?_
        by_cases c_45_0 : nI k0 = 0
        · skip
          have e_k : k0 = 0 := (n_eq (a := k0) (b := 0) (by omega) (by omega)).mp c_45_0
          refine lv_tableIn (off := 35) (tgt := 80) hxR hbR dX0_says_45 (by rw [c_45_0]; decide) (by rw [c_45_0]; decide) (by rw [c_45_0]; rfl) (by decide) ?_
          refine lv_aload_n hxR hbR dX0_says_80 rfl (lv_at hl 0 rfl) ?_
          refine r_castX hxR hbR hts hown q434 hK.xw (va_Nc.iA (iA.no hK.xw (row_ncM hzo))) (row_isA hK hI (q0 := (14 + (5 + (4 + 0)))) hzo (he_r (Nat.le_of_ble_eq_true rfl) (Nat.le_of_ble_eq_true rfl) (he_r (Nat.le_of_ble_eq_true rfl) (Nat.le_of_ble_eq_true rfl) (he_r (Nat.le_of_ble_eq_true rfl) (Nat.le_of_ble_eq_true rfl) (he_l rfl))))) (pk_row hzo).1 pk_7.1 (pk_row hzo).2 pk_7.2 dX0_says_81 (fun tx ht1 ht2 => ?_)
          refine r_vm_cce hxR hlt hmlR hts hK hI hl.1 hlk ht1 ht2 (by decide) (by omega) (Nat.le_of_ble_eq_true rfl) (by omega) (fun H q9 ce_81 hI hq1 hq2 hq3 => ?_)
          refine r_catch 0 _ hown hts hK.xw htab rfl (fun z hz => absurd hz List.not_mem_nil) (by decide) (by decide) q608 q620 hq1 hq2 hq3 ?_
          refine W.eq (g2 := F0 mR 133 ls [.ref q9]) rfl ?_
          have hI : wI E AR sR _ _ (rowW E (aqI P) zo zn (RI P) ++ (itsX (itF E aqI shI soI szI kmI bmI RI) P ++ (xW E ad iv ch rd tp rf (hdI shI aqI) (adn 10) tr (adg 8) dy im ++ (gW E adg ivg grg pag mog sgg tng ++ (tW E adn ivn hrn csn (sK K)))))) := wI_pick ([xW E ad iv ch rd tp rf (hdI shI aqI) (adn 10) tr (adg 8) dy im, gW E adg ivg grg pag mog sgg tng, tW E adn ivn hrn csn (sK K), rowW E (aqI P) zo zn (RI P), itsX (itF E aqI shI soI szI kmI bmI RI) P]) [3, 4, 0, 1, 2] 5 rfl (by decide) hI
          have hI := its_in (f := itF E aqI shI soI szI kmI bmI RI) (g := itF E aqI shI soI szI kmI bmI RI) hP (fun _ _ => rfl) (itF_row c_h hzo9 hzn9 (by omega) (by omega)) hI
          have hI : wI E AR sR _ _ (itsW (itF E aqI shI soI szI kmI bmI RI) ++ (xW E ad iv ch rd tp rf (hdI shI aqI) (adn 10) tr (adg 8) dy im ++ (gW E adg ivg grg pag mog sgg tng ++ (tW E adn ivn hrn csn (sK K))))) := hI
          have hI : wI E AR sR _ _ (xW E ad iv ch rd tp rf (hdI shI aqI) (adn 10) tr (adg 8) dy im ++ (gW E adg ivg grg pag mog sgg tng ++ (tW E adn ivn hrn csn (sK K) ++ (itsW (itF E aqI shI soI szI kmI bmI RI))))) := wI_pick ([itsW (itF E aqI shI soI szI kmI bmI RI), xW E ad iv ch rd tp rf (hdI shI aqI) (adn 10) tr (adg 8) dy im, gW E adg ivg grg pag mog sgg tng, tW E adn ivn hrn csn (sK K)]) [1, 2, 3, 0] 4 rfl (by decide) hI
          refine lv_astore (lv' := [(4, .ref q9), (3, .ref (aqI P)), (0, .ref (ad 11)), (1, .int (nI P)), (2, .int (nI k0))]) hxR hbR dX0_says_133 hl (by decide) rfl (fun ls hl => ?_)
          refine lv_aload_n hxR hbR dX0_says_135 rfl (lv_at hl 2 rfl) ?_
          refine lv_bipush (v := (-3)) hxR hbR dX0_says_136 (by decide) ?_
          refine kVI (n := 1) (As := [.int (-3)]) (rest := []) (fun w => w ++ (gW E adg ivg grg pag mog sgg tng ++ (tW E adn ivn hrn csn (sK K) ++ (itsW (itF E aqI shI soI szI kmI bmI RI))))) hxR hbR hmlR hts hown hK hA hl.1 (isCtx.suf _) hI (c0_no l E ad iv ch rd tp rf (hdI shI aqI) (adn 10) tr (adg 8) dy im (-3) 3 (by decide) (by decide)) (lw_V q396 q398 qs2 q81 q399) ⟨rfl, by decide +kernel⟩ 8 0 rfl rfl xW_o rfl (Nat.le_of_ble_eq_true rfl) (Nat.le_of_ble_eq_true rfl) ⟨Nat.le_of_ble_eq_true rfl, Nat.le_of_ble_eq_true rfl⟩ (Nat.le_of_ble_eq_true rfl) dX0_says_138 (fun r_138 u H locs hp hI hz => ?_)
          have hI : wI E AR sR H locs (xW E ad iv ch rd tp (va_up rf 3 (rf 3 + 1)) (hdI shI aqI) (adn 10) tr (adg 8) dy im ++ (gW E adg ivg grg pag mog sgg tng ++ (tW E adn ivn hrn csn (sK K) ++ (itsW (itF E aqI shI soI szI kmI bmI RI))))) := hI
          have hp : r_138 = (-3) := hp
          have hr_138 := hp
          subst hr_138
          have hC : saysC shI kmI (nI P) (nI k0) = (-3) := by
            clear hret hI
            unfold saysC; rw [if_pos ⟨c_1, c_10⟩, nI_clamp (n := P) (by omega), nI_clamp (n := k0) (by omega)]; exact if_pos (Or.inl c_h)
          have erf : bumpR rf (saysC shI kmI (nI P) (nI k0)) = va_up rf 3 (rf 3 + 1) := by rw [hC]; exact bump_3 _
          have hI := wI_w (ws' := xW E ad iv ch rd tp (bumpR rf (saysC shI kmI (nI P) (nI k0))) (hdI shI aqI) (adn 10) tr (adg 8) dy im ++ (gW E adg (va_up ivg 5 (ivg 5)) grg pag mog sgg tng ++ (tW E adn ivn hrn csn (sK K) ++ (itsW (itF E aqI shI soI szI kmI bmI RI))))) (by rw [erf, va_up_id (f := ivg) (k := 5) (v := ivg 5) rfl]; try rfl) hI
          exact hret (mog, sgg, grg, pag, tng, ivg 5) (-3) _ _ (0 + 3) (0 + (1000 + 10)) _ _ dX0_says_141 hI (by show (-3) = gd (saysC shI kmI (nI P) (nI k0)) (saysV kmI bmI K csn n st (nI P) (nI k0)) (saysC shI kmI (nI P) (nI k0)); rw [hC]; first | rfl | (simp only [nI_clamp (n := P) (by omega), nI_clamp (n := k0) (by omega)]; rfl) | (simp only [gd_0, nI_clamp (n := P) (by omega), nI_clamp (n := k0) (by omega)]; split <;> first | rfl | contradiction)) (Nat.le_of_ble_eq_true rfl) (Nat.le_of_ble_eq_true rfl) rfl
        by_cases c_45_1 : nI k0 = 1
        · skip
          have e_k : k0 = 1 := (n_eq (a := k0) (b := 1) (by omega) (by omega)).mp c_45_1
          refine lv_tableIn (off := 43) (tgt := 88) hxR hbR dX0_says_45 (by rw [c_45_1]; decide) (by rw [c_45_1]; decide) (by rw [c_45_1]; rfl) (by decide) ?_
          refine lv_aload_n hxR hbR dX0_says_88 rfl (lv_at hl 1 rfl) ?_
          refine lv_aload_n hxR hbR dX0_says_89 rfl (lv_at hl 0 rfl) ?_
          refine r_castX hxR hbR hts hown q556 hK.xw (va_Nc.iA (iA.no hK.xw (row_castN (v := 1) hzo (by decide) (by decide)))) (row_isA hK hI (q0 := (14 + (5 + (4 + 0)))) hzo (he_r (Nat.le_of_ble_eq_true rfl) (Nat.le_of_ble_eq_true rfl) (he_r (Nat.le_of_ble_eq_true rfl) (Nat.le_of_ble_eq_true rfl) (he_r (Nat.le_of_ble_eq_true rfl) (Nat.le_of_ble_eq_true rfl) (he_l rfl))))) (pk_row hzo).1 (pk_man (kd := 1) (by decide) (by decide)).1 (pk_row hzo).2 (pk_man (kd := 1) (by decide) (by decide)).2 dX0_says_90 (fun tx ht1 ht2 => ?_)
          refine r_vm_cce hxR hlt hmlR hts hK hI hl.1 hlk ht1 ht2 (by decide) (by omega) (Nat.le_of_ble_eq_true rfl) (by omega) (fun H q9 ce_90 hI hq1 hq2 hq3 => ?_)
          refine r_catch 1 _ hown hts hK.xw htab rfl (List.forall_mem_cons.mpr ⟨Or.inl (by decide), (fun z hz => absurd hz List.not_mem_nil)⟩) (by decide) (by decide) q608 q620 hq1 hq2 hq3 ?_
          refine W.eq (g2 := F0 mR 133 ls [.ref q9]) rfl ?_
          have hI : wI E AR sR _ _ (rowW E (aqI P) zo zn (RI P) ++ (itsX (itF E aqI shI soI szI kmI bmI RI) P ++ (xW E ad iv ch rd tp rf (hdI shI aqI) (adn 10) tr (adg 8) dy im ++ (gW E adg ivg grg pag mog sgg tng ++ (tW E adn ivn hrn csn (sK K)))))) := wI_pick ([xW E ad iv ch rd tp rf (hdI shI aqI) (adn 10) tr (adg 8) dy im, gW E adg ivg grg pag mog sgg tng, tW E adn ivn hrn csn (sK K), rowW E (aqI P) zo zn (RI P), itsX (itF E aqI shI soI szI kmI bmI RI) P]) [3, 4, 0, 1, 2] 5 rfl (by decide) hI
          have hI := its_in (f := itF E aqI shI soI szI kmI bmI RI) (g := itF E aqI shI soI szI kmI bmI RI) hP (fun _ _ => rfl) (itF_row c_h hzo9 hzn9 (by omega) (by omega)) hI
          have hI : wI E AR sR _ _ (itsW (itF E aqI shI soI szI kmI bmI RI) ++ (xW E ad iv ch rd tp rf (hdI shI aqI) (adn 10) tr (adg 8) dy im ++ (gW E adg ivg grg pag mog sgg tng ++ (tW E adn ivn hrn csn (sK K))))) := hI
          have hI : wI E AR sR _ _ (xW E ad iv ch rd tp rf (hdI shI aqI) (adn 10) tr (adg 8) dy im ++ (gW E adg ivg grg pag mog sgg tng ++ (tW E adn ivn hrn csn (sK K) ++ (itsW (itF E aqI shI soI szI kmI bmI RI))))) := wI_pick ([itsW (itF E aqI shI soI szI kmI bmI RI), xW E ad iv ch rd tp rf (hdI shI aqI) (adn 10) tr (adg 8) dy im, gW E adg ivg grg pag mog sgg tng, tW E adn ivn hrn csn (sK K)]) [1, 2, 3, 0] 4 rfl (by decide) hI
          refine lv_astore (lv' := [(4, .ref q9), (3, .ref (aqI P)), (0, .ref (ad 11)), (1, .int (nI P)), (2, .int (nI k0))]) hxR hbR dX0_says_133 hl (by decide) rfl (fun ls hl => ?_)
          refine lv_aload_n hxR hbR dX0_says_135 rfl (lv_at hl 2 rfl) ?_
          refine lv_bipush (v := (-3)) hxR hbR dX0_says_136 (by decide) ?_
          refine kVI (n := 1) (As := [.int (-3)]) (rest := []) (fun w => w ++ (gW E adg ivg grg pag mog sgg tng ++ (tW E adn ivn hrn csn (sK K) ++ (itsW (itF E aqI shI soI szI kmI bmI RI))))) hxR hbR hmlR hts hown hK hA hl.1 (isCtx.suf _) hI (c0_no l E ad iv ch rd tp rf (hdI shI aqI) (adn 10) tr (adg 8) dy im (-3) 3 (by decide) (by decide)) (lw_V q396 q398 qs2 q81 q399) ⟨rfl, by decide +kernel⟩ 8 0 rfl rfl xW_o rfl (Nat.le_of_ble_eq_true rfl) (Nat.le_of_ble_eq_true rfl) ⟨Nat.le_of_ble_eq_true rfl, Nat.le_of_ble_eq_true rfl⟩ (Nat.le_of_ble_eq_true rfl) dX0_says_138 (fun r_138 u H locs hp hI hz => ?_)
          have hI : wI E AR sR H locs (xW E ad iv ch rd tp (va_up rf 3 (rf 3 + 1)) (hdI shI aqI) (adn 10) tr (adg 8) dy im ++ (gW E adg ivg grg pag mog sgg tng ++ (tW E adn ivn hrn csn (sK K) ++ (itsW (itF E aqI shI soI szI kmI bmI RI))))) := hI
          have hp : r_138 = (-3) := hp
          have hr_138 := hp
          subst hr_138
          have hC : saysC shI kmI (nI P) (nI k0) = (-3) := by
            clear hret hI
            unfold saysC; rw [if_pos ⟨c_1, c_10⟩, nI_clamp (n := P) (by omega), nI_clamp (n := k0) (by omega)]; exact if_pos (Or.inl c_h)
          have erf : bumpR rf (saysC shI kmI (nI P) (nI k0)) = va_up rf 3 (rf 3 + 1) := by rw [hC]; exact bump_3 _
          have hI := wI_w (ws' := xW E ad iv ch rd tp (bumpR rf (saysC shI kmI (nI P) (nI k0))) (hdI shI aqI) (adn 10) tr (adg 8) dy im ++ (gW E adg (va_up ivg 5 (ivg 5)) grg pag mog sgg tng ++ (tW E adn ivn hrn csn (sK K) ++ (itsW (itF E aqI shI soI szI kmI bmI RI))))) (by rw [erf, va_up_id (f := ivg) (k := 5) (v := ivg 5) rfl]; try rfl) hI
          exact hret (mog, sgg, grg, pag, tng, ivg 5) (-3) _ _ (0 + 3) (0 + (1000 + 10)) _ _ dX0_says_141 hI (by show (-3) = gd (saysC shI kmI (nI P) (nI k0)) (saysV kmI bmI K csn n st (nI P) (nI k0)) (saysC shI kmI (nI P) (nI k0)); rw [hC]; first | rfl | (simp only [nI_clamp (n := P) (by omega), nI_clamp (n := k0) (by omega)]; rfl) | (simp only [gd_0, nI_clamp (n := P) (by omega), nI_clamp (n := k0) (by omega)]; split <;> first | rfl | contradiction)) (Nat.le_of_ble_eq_true rfl) (Nat.le_of_ble_eq_true rfl) rfl
        by_cases c_45_2 : nI k0 = 2
        · skip
          have e_k : k0 = 2 := (n_eq (a := k0) (b := 2) (by omega) (by omega)).mp c_45_2
          refine lv_tableIn (off := 52) (tgt := 97) hxR hbR dX0_says_45 (by rw [c_45_2]; decide) (by rw [c_45_2]; decide) (by rw [c_45_2]; rfl) (by decide) ?_
          refine lv_aload_n hxR hbR dX0_says_97 rfl (lv_at hl 1 rfl) ?_
          refine lv_aload_n hxR hbR dX0_says_98 rfl (lv_at hl 0 rfl) ?_
          refine r_castX hxR hbR hts hown q572 hK.xw (va_Nc.iA (iA.no hK.xw (row_castN (v := 2) hzo (by decide) (by decide)))) (row_isA hK hI (q0 := (14 + (5 + (4 + 0)))) hzo (he_r (Nat.le_of_ble_eq_true rfl) (Nat.le_of_ble_eq_true rfl) (he_r (Nat.le_of_ble_eq_true rfl) (Nat.le_of_ble_eq_true rfl) (he_r (Nat.le_of_ble_eq_true rfl) (Nat.le_of_ble_eq_true rfl) (he_l rfl))))) (pk_row hzo).1 (pk_man (kd := 2) (by decide) (by decide)).1 (pk_row hzo).2 (pk_man (kd := 2) (by decide) (by decide)).2 dX0_says_99 (fun tx ht1 ht2 => ?_)
          refine r_vm_cce hxR hlt hmlR hts hK hI hl.1 hlk ht1 ht2 (by decide) (by omega) (Nat.le_of_ble_eq_true rfl) (by omega) (fun H q9 ce_99 hI hq1 hq2 hq3 => ?_)
          refine r_catch 2 _ hown hts hK.xw htab rfl (List.forall_mem_cons.mpr ⟨Or.inl (by decide), (List.forall_mem_cons.mpr ⟨Or.inl (by decide), (fun z hz => absurd hz List.not_mem_nil)⟩)⟩) (by decide) (by decide) q608 q620 hq1 hq2 hq3 ?_
          refine W.eq (g2 := F0 mR 133 ls [.ref q9]) rfl ?_
          have hI : wI E AR sR _ _ (rowW E (aqI P) zo zn (RI P) ++ (itsX (itF E aqI shI soI szI kmI bmI RI) P ++ (xW E ad iv ch rd tp rf (hdI shI aqI) (adn 10) tr (adg 8) dy im ++ (gW E adg ivg grg pag mog sgg tng ++ (tW E adn ivn hrn csn (sK K)))))) := wI_pick ([xW E ad iv ch rd tp rf (hdI shI aqI) (adn 10) tr (adg 8) dy im, gW E adg ivg grg pag mog sgg tng, tW E adn ivn hrn csn (sK K), rowW E (aqI P) zo zn (RI P), itsX (itF E aqI shI soI szI kmI bmI RI) P]) [3, 4, 0, 1, 2] 5 rfl (by decide) hI
          have hI := its_in (f := itF E aqI shI soI szI kmI bmI RI) (g := itF E aqI shI soI szI kmI bmI RI) hP (fun _ _ => rfl) (itF_row c_h hzo9 hzn9 (by omega) (by omega)) hI
          have hI : wI E AR sR _ _ (itsW (itF E aqI shI soI szI kmI bmI RI) ++ (xW E ad iv ch rd tp rf (hdI shI aqI) (adn 10) tr (adg 8) dy im ++ (gW E adg ivg grg pag mog sgg tng ++ (tW E adn ivn hrn csn (sK K))))) := hI
          have hI : wI E AR sR _ _ (xW E ad iv ch rd tp rf (hdI shI aqI) (adn 10) tr (adg 8) dy im ++ (gW E adg ivg grg pag mog sgg tng ++ (tW E adn ivn hrn csn (sK K) ++ (itsW (itF E aqI shI soI szI kmI bmI RI))))) := wI_pick ([itsW (itF E aqI shI soI szI kmI bmI RI), xW E ad iv ch rd tp rf (hdI shI aqI) (adn 10) tr (adg 8) dy im, gW E adg ivg grg pag mog sgg tng, tW E adn ivn hrn csn (sK K)]) [1, 2, 3, 0] 4 rfl (by decide) hI
          refine lv_astore (lv' := [(4, .ref q9), (3, .ref (aqI P)), (0, .ref (ad 11)), (1, .int (nI P)), (2, .int (nI k0))]) hxR hbR dX0_says_133 hl (by decide) rfl (fun ls hl => ?_)
          refine lv_aload_n hxR hbR dX0_says_135 rfl (lv_at hl 2 rfl) ?_
          refine lv_bipush (v := (-3)) hxR hbR dX0_says_136 (by decide) ?_
          refine kVI (n := 1) (As := [.int (-3)]) (rest := []) (fun w => w ++ (gW E adg ivg grg pag mog sgg tng ++ (tW E adn ivn hrn csn (sK K) ++ (itsW (itF E aqI shI soI szI kmI bmI RI))))) hxR hbR hmlR hts hown hK hA hl.1 (isCtx.suf _) hI (c0_no l E ad iv ch rd tp rf (hdI shI aqI) (adn 10) tr (adg 8) dy im (-3) 3 (by decide) (by decide)) (lw_V q396 q398 qs2 q81 q399) ⟨rfl, by decide +kernel⟩ 8 0 rfl rfl xW_o rfl (Nat.le_of_ble_eq_true rfl) (Nat.le_of_ble_eq_true rfl) ⟨Nat.le_of_ble_eq_true rfl, Nat.le_of_ble_eq_true rfl⟩ (Nat.le_of_ble_eq_true rfl) dX0_says_138 (fun r_138 u H locs hp hI hz => ?_)
          have hI : wI E AR sR H locs (xW E ad iv ch rd tp (va_up rf 3 (rf 3 + 1)) (hdI shI aqI) (adn 10) tr (adg 8) dy im ++ (gW E adg ivg grg pag mog sgg tng ++ (tW E adn ivn hrn csn (sK K) ++ (itsW (itF E aqI shI soI szI kmI bmI RI))))) := hI
          have hp : r_138 = (-3) := hp
          have hr_138 := hp
          subst hr_138
          have hC : saysC shI kmI (nI P) (nI k0) = (-3) := by
            clear hret hI
            unfold saysC; rw [if_pos ⟨c_1, c_10⟩, nI_clamp (n := P) (by omega), nI_clamp (n := k0) (by omega)]; exact if_pos (Or.inl c_h)
          have erf : bumpR rf (saysC shI kmI (nI P) (nI k0)) = va_up rf 3 (rf 3 + 1) := by rw [hC]; exact bump_3 _
          have hI := wI_w (ws' := xW E ad iv ch rd tp (bumpR rf (saysC shI kmI (nI P) (nI k0))) (hdI shI aqI) (adn 10) tr (adg 8) dy im ++ (gW E adg (va_up ivg 5 (ivg 5)) grg pag mog sgg tng ++ (tW E adn ivn hrn csn (sK K) ++ (itsW (itF E aqI shI soI szI kmI bmI RI))))) (by rw [erf, va_up_id (f := ivg) (k := 5) (v := ivg 5) rfl]; try rfl) hI
          exact hret (mog, sgg, grg, pag, tng, ivg 5) (-3) _ _ (0 + 3) (0 + (1000 + 10)) _ _ dX0_says_141 hI (by show (-3) = gd (saysC shI kmI (nI P) (nI k0)) (saysV kmI bmI K csn n st (nI P) (nI k0)) (saysC shI kmI (nI P) (nI k0)); rw [hC]; first | rfl | (simp only [nI_clamp (n := P) (by omega), nI_clamp (n := k0) (by omega)]; rfl) | (simp only [gd_0, nI_clamp (n := P) (by omega), nI_clamp (n := k0) (by omega)]; split <;> first | rfl | contradiction)) (Nat.le_of_ble_eq_true rfl) (Nat.le_of_ble_eq_true rfl) rfl
        by_cases c_45_3 : nI k0 = 3
        · skip
          have e_k : k0 = 3 := (n_eq (a := k0) (b := 3) (by omega) (by omega)).mp c_45_3
          refine lv_tableIn (off := 61) (tgt := 106) hxR hbR dX0_says_45 (by rw [c_45_3]; decide) (by rw [c_45_3]; decide) (by rw [c_45_3]; rfl) (by decide) ?_
          refine lv_aload_n hxR hbR dX0_says_106 rfl (lv_at hl 1 rfl) ?_
          refine lv_aload_n hxR hbR dX0_says_107 rfl (lv_at hl 0 rfl) ?_
          refine r_castX hxR hbR hts hown q580 hK.xw (va_Nc.iA (iA.no hK.xw (row_castN (v := 3) hzo (by decide) (by decide)))) (row_isA hK hI (q0 := (14 + (5 + (4 + 0)))) hzo (he_r (Nat.le_of_ble_eq_true rfl) (Nat.le_of_ble_eq_true rfl) (he_r (Nat.le_of_ble_eq_true rfl) (Nat.le_of_ble_eq_true rfl) (he_r (Nat.le_of_ble_eq_true rfl) (Nat.le_of_ble_eq_true rfl) (he_l rfl))))) (pk_row hzo).1 (pk_man (kd := 3) (by decide) (by decide)).1 (pk_row hzo).2 (pk_man (kd := 3) (by decide) (by decide)).2 dX0_says_108 (fun tx ht1 ht2 => ?_)
          refine r_vm_cce hxR hlt hmlR hts hK hI hl.1 hlk ht1 ht2 (by decide) (by omega) (Nat.le_of_ble_eq_true rfl) (by omega) (fun H q9 ce_108 hI hq1 hq2 hq3 => ?_)
          refine r_catch 3 _ hown hts hK.xw htab rfl (List.forall_mem_cons.mpr ⟨Or.inl (by decide), (List.forall_mem_cons.mpr ⟨Or.inl (by decide), (List.forall_mem_cons.mpr ⟨Or.inl (by decide), (fun z hz => absurd hz List.not_mem_nil)⟩)⟩)⟩) (by decide) (by decide) q608 q620 hq1 hq2 hq3 ?_
          refine W.eq (g2 := F0 mR 133 ls [.ref q9]) rfl ?_
          have hI : wI E AR sR _ _ (rowW E (aqI P) zo zn (RI P) ++ (itsX (itF E aqI shI soI szI kmI bmI RI) P ++ (xW E ad iv ch rd tp rf (hdI shI aqI) (adn 10) tr (adg 8) dy im ++ (gW E adg ivg grg pag mog sgg tng ++ (tW E adn ivn hrn csn (sK K)))))) := wI_pick ([xW E ad iv ch rd tp rf (hdI shI aqI) (adn 10) tr (adg 8) dy im, gW E adg ivg grg pag mog sgg tng, tW E adn ivn hrn csn (sK K), rowW E (aqI P) zo zn (RI P), itsX (itF E aqI shI soI szI kmI bmI RI) P]) [3, 4, 0, 1, 2] 5 rfl (by decide) hI
          have hI := its_in (f := itF E aqI shI soI szI kmI bmI RI) (g := itF E aqI shI soI szI kmI bmI RI) hP (fun _ _ => rfl) (itF_row c_h hzo9 hzn9 (by omega) (by omega)) hI
          have hI : wI E AR sR _ _ (itsW (itF E aqI shI soI szI kmI bmI RI) ++ (xW E ad iv ch rd tp rf (hdI shI aqI) (adn 10) tr (adg 8) dy im ++ (gW E adg ivg grg pag mog sgg tng ++ (tW E adn ivn hrn csn (sK K))))) := hI
          have hI : wI E AR sR _ _ (xW E ad iv ch rd tp rf (hdI shI aqI) (adn 10) tr (adg 8) dy im ++ (gW E adg ivg grg pag mog sgg tng ++ (tW E adn ivn hrn csn (sK K) ++ (itsW (itF E aqI shI soI szI kmI bmI RI))))) := wI_pick ([itsW (itF E aqI shI soI szI kmI bmI RI), xW E ad iv ch rd tp rf (hdI shI aqI) (adn 10) tr (adg 8) dy im, gW E adg ivg grg pag mog sgg tng, tW E adn ivn hrn csn (sK K)]) [1, 2, 3, 0] 4 rfl (by decide) hI
          refine lv_astore (lv' := [(4, .ref q9), (3, .ref (aqI P)), (0, .ref (ad 11)), (1, .int (nI P)), (2, .int (nI k0))]) hxR hbR dX0_says_133 hl (by decide) rfl (fun ls hl => ?_)
          refine lv_aload_n hxR hbR dX0_says_135 rfl (lv_at hl 2 rfl) ?_
          refine lv_bipush (v := (-3)) hxR hbR dX0_says_136 (by decide) ?_
          refine kVI (n := 1) (As := [.int (-3)]) (rest := []) (fun w => w ++ (gW E adg ivg grg pag mog sgg tng ++ (tW E adn ivn hrn csn (sK K) ++ (itsW (itF E aqI shI soI szI kmI bmI RI))))) hxR hbR hmlR hts hown hK hA hl.1 (isCtx.suf _) hI (c0_no l E ad iv ch rd tp rf (hdI shI aqI) (adn 10) tr (adg 8) dy im (-3) 3 (by decide) (by decide)) (lw_V q396 q398 qs2 q81 q399) ⟨rfl, by decide +kernel⟩ 8 0 rfl rfl xW_o rfl (Nat.le_of_ble_eq_true rfl) (Nat.le_of_ble_eq_true rfl) ⟨Nat.le_of_ble_eq_true rfl, Nat.le_of_ble_eq_true rfl⟩ (Nat.le_of_ble_eq_true rfl) dX0_says_138 (fun r_138 u H locs hp hI hz => ?_)
          have hI : wI E AR sR H locs (xW E ad iv ch rd tp (va_up rf 3 (rf 3 + 1)) (hdI shI aqI) (adn 10) tr (adg 8) dy im ++ (gW E adg ivg grg pag mog sgg tng ++ (tW E adn ivn hrn csn (sK K) ++ (itsW (itF E aqI shI soI szI kmI bmI RI))))) := hI
          have hp : r_138 = (-3) := hp
          have hr_138 := hp
          subst hr_138
          have hC : saysC shI kmI (nI P) (nI k0) = (-3) := by
            clear hret hI
            unfold saysC; rw [if_pos ⟨c_1, c_10⟩, nI_clamp (n := P) (by omega), nI_clamp (n := k0) (by omega)]; exact if_pos (Or.inl c_h)
          have erf : bumpR rf (saysC shI kmI (nI P) (nI k0)) = va_up rf 3 (rf 3 + 1) := by rw [hC]; exact bump_3 _
          have hI := wI_w (ws' := xW E ad iv ch rd tp (bumpR rf (saysC shI kmI (nI P) (nI k0))) (hdI shI aqI) (adn 10) tr (adg 8) dy im ++ (gW E adg (va_up ivg 5 (ivg 5)) grg pag mog sgg tng ++ (tW E adn ivn hrn csn (sK K) ++ (itsW (itF E aqI shI soI szI kmI bmI RI))))) (by rw [erf, va_up_id (f := ivg) (k := 5) (v := ivg 5) rfl]; try rfl) hI
          exact hret (mog, sgg, grg, pag, tng, ivg 5) (-3) _ _ (0 + 3) (0 + (1000 + 10)) _ _ dX0_says_141 hI (by show (-3) = gd (saysC shI kmI (nI P) (nI k0)) (saysV kmI bmI K csn n st (nI P) (nI k0)) (saysC shI kmI (nI P) (nI k0)); rw [hC]; first | rfl | (simp only [nI_clamp (n := P) (by omega), nI_clamp (n := k0) (by omega)]; rfl) | (simp only [gd_0, nI_clamp (n := P) (by omega), nI_clamp (n := k0) (by omega)]; split <;> first | rfl | contradiction)) (Nat.le_of_ble_eq_true rfl) (Nat.le_of_ble_eq_true rfl) rfl
        by_cases c_45_4 : nI k0 = 4
        · skip
          have e_k : k0 = 4 := (n_eq (a := k0) (b := 4) (by omega) (by omega)).mp c_45_4
          refine lv_tableIn (off := 70) (tgt := 115) hxR hbR dX0_says_45 (by rw [c_45_4]; decide) (by rw [c_45_4]; decide) (by rw [c_45_4]; rfl) (by decide) ?_
          refine lv_aload_n hxR hbR dX0_says_115 rfl (lv_at hl 1 rfl) ?_
          refine lv_aload_n hxR hbR dX0_says_116 rfl (lv_at hl 0 rfl) ?_
          refine r_castX hxR hbR hts hown q588 hK.xw (va_Nc.iA (iA.no hK.xw (row_castN (v := 4) hzo (by decide) (by decide)))) (row_isA hK hI (q0 := (14 + (5 + (4 + 0)))) hzo (he_r (Nat.le_of_ble_eq_true rfl) (Nat.le_of_ble_eq_true rfl) (he_r (Nat.le_of_ble_eq_true rfl) (Nat.le_of_ble_eq_true rfl) (he_r (Nat.le_of_ble_eq_true rfl) (Nat.le_of_ble_eq_true rfl) (he_l rfl))))) (pk_row hzo).1 (pk_man (kd := 4) (by decide) (by decide)).1 (pk_row hzo).2 (pk_man (kd := 4) (by decide) (by decide)).2 dX0_says_117 (fun tx ht1 ht2 => ?_)
          refine r_vm_cce hxR hlt hmlR hts hK hI hl.1 hlk ht1 ht2 (by decide) (by omega) (Nat.le_of_ble_eq_true rfl) (by omega) (fun H q9 ce_117 hI hq1 hq2 hq3 => ?_)
          refine r_catch 4 _ hown hts hK.xw htab rfl (List.forall_mem_cons.mpr ⟨Or.inl (by decide), (List.forall_mem_cons.mpr ⟨Or.inl (by decide), (List.forall_mem_cons.mpr ⟨Or.inl (by decide), (List.forall_mem_cons.mpr ⟨Or.inl (by decide), (fun z hz => absurd hz List.not_mem_nil)⟩)⟩)⟩)⟩) (by decide) (by decide) q608 q620 hq1 hq2 hq3 ?_
          refine W.eq (g2 := F0 mR 133 ls [.ref q9]) rfl ?_
          have hI : wI E AR sR _ _ (rowW E (aqI P) zo zn (RI P) ++ (itsX (itF E aqI shI soI szI kmI bmI RI) P ++ (xW E ad iv ch rd tp rf (hdI shI aqI) (adn 10) tr (adg 8) dy im ++ (gW E adg ivg grg pag mog sgg tng ++ (tW E adn ivn hrn csn (sK K)))))) := wI_pick ([xW E ad iv ch rd tp rf (hdI shI aqI) (adn 10) tr (adg 8) dy im, gW E adg ivg grg pag mog sgg tng, tW E adn ivn hrn csn (sK K), rowW E (aqI P) zo zn (RI P), itsX (itF E aqI shI soI szI kmI bmI RI) P]) [3, 4, 0, 1, 2] 5 rfl (by decide) hI
          have hI := its_in (f := itF E aqI shI soI szI kmI bmI RI) (g := itF E aqI shI soI szI kmI bmI RI) hP (fun _ _ => rfl) (itF_row c_h hzo9 hzn9 (by omega) (by omega)) hI
          have hI : wI E AR sR _ _ (itsW (itF E aqI shI soI szI kmI bmI RI) ++ (xW E ad iv ch rd tp rf (hdI shI aqI) (adn 10) tr (adg 8) dy im ++ (gW E adg ivg grg pag mog sgg tng ++ (tW E adn ivn hrn csn (sK K))))) := hI
          have hI : wI E AR sR _ _ (xW E ad iv ch rd tp rf (hdI shI aqI) (adn 10) tr (adg 8) dy im ++ (gW E adg ivg grg pag mog sgg tng ++ (tW E adn ivn hrn csn (sK K) ++ (itsW (itF E aqI shI soI szI kmI bmI RI))))) := wI_pick ([itsW (itF E aqI shI soI szI kmI bmI RI), xW E ad iv ch rd tp rf (hdI shI aqI) (adn 10) tr (adg 8) dy im, gW E adg ivg grg pag mog sgg tng, tW E adn ivn hrn csn (sK K)]) [1, 2, 3, 0] 4 rfl (by decide) hI
          refine lv_astore (lv' := [(4, .ref q9), (3, .ref (aqI P)), (0, .ref (ad 11)), (1, .int (nI P)), (2, .int (nI k0))]) hxR hbR dX0_says_133 hl (by decide) rfl (fun ls hl => ?_)
          refine lv_aload_n hxR hbR dX0_says_135 rfl (lv_at hl 2 rfl) ?_
          refine lv_bipush (v := (-3)) hxR hbR dX0_says_136 (by decide) ?_
          refine kVI (n := 1) (As := [.int (-3)]) (rest := []) (fun w => w ++ (gW E adg ivg grg pag mog sgg tng ++ (tW E adn ivn hrn csn (sK K) ++ (itsW (itF E aqI shI soI szI kmI bmI RI))))) hxR hbR hmlR hts hown hK hA hl.1 (isCtx.suf _) hI (c0_no l E ad iv ch rd tp rf (hdI shI aqI) (adn 10) tr (adg 8) dy im (-3) 3 (by decide) (by decide)) (lw_V q396 q398 qs2 q81 q399) ⟨rfl, by decide +kernel⟩ 8 0 rfl rfl xW_o rfl (Nat.le_of_ble_eq_true rfl) (Nat.le_of_ble_eq_true rfl) ⟨Nat.le_of_ble_eq_true rfl, Nat.le_of_ble_eq_true rfl⟩ (Nat.le_of_ble_eq_true rfl) dX0_says_138 (fun r_138 u H locs hp hI hz => ?_)
          have hI : wI E AR sR H locs (xW E ad iv ch rd tp (va_up rf 3 (rf 3 + 1)) (hdI shI aqI) (adn 10) tr (adg 8) dy im ++ (gW E adg ivg grg pag mog sgg tng ++ (tW E adn ivn hrn csn (sK K) ++ (itsW (itF E aqI shI soI szI kmI bmI RI))))) := hI
          have hp : r_138 = (-3) := hp
          have hr_138 := hp
          subst hr_138
          have hC : saysC shI kmI (nI P) (nI k0) = (-3) := by
            clear hret hI
            unfold saysC; rw [if_pos ⟨c_1, c_10⟩, nI_clamp (n := P) (by omega), nI_clamp (n := k0) (by omega)]; exact if_pos (Or.inl c_h)
          have erf : bumpR rf (saysC shI kmI (nI P) (nI k0)) = va_up rf 3 (rf 3 + 1) := by rw [hC]; exact bump_3 _
          have hI := wI_w (ws' := xW E ad iv ch rd tp (bumpR rf (saysC shI kmI (nI P) (nI k0))) (hdI shI aqI) (adn 10) tr (adg 8) dy im ++ (gW E adg (va_up ivg 5 (ivg 5)) grg pag mog sgg tng ++ (tW E adn ivn hrn csn (sK K) ++ (itsW (itF E aqI shI soI szI kmI bmI RI))))) (by rw [erf, va_up_id (f := ivg) (k := 5) (v := ivg 5) rfl]; try rfl) hI
          exact hret (mog, sgg, grg, pag, tng, ivg 5) (-3) _ _ (0 + 3) (0 + (1000 + 10)) _ _ dX0_says_141 hI (by show (-3) = gd (saysC shI kmI (nI P) (nI k0)) (saysV kmI bmI K csn n st (nI P) (nI k0)) (saysC shI kmI (nI P) (nI k0)); rw [hC]; first | rfl | (simp only [nI_clamp (n := P) (by omega), nI_clamp (n := k0) (by omega)]; rfl) | (simp only [gd_0, nI_clamp (n := P) (by omega), nI_clamp (n := k0) (by omega)]; split <;> first | rfl | contradiction)) (Nat.le_of_ble_eq_true rfl) (Nat.le_of_ble_eq_true rfl) rfl
        have c_45_d : (nI k0).toInt < 0 ∨ 4 < (nI k0).toInt := by
          have z0 : ¬ (nI k0).toInt = 0 := fun q => c_45_0 (Int32.toInt_inj.mp q)
          have z1 : ¬ (nI k0).toInt = 1 := fun q => c_45_1 (Int32.toInt_inj.mp q)
          have z2 : ¬ (nI k0).toInt = 2 := fun q => c_45_2 (Int32.toInt_inj.mp q)
          have z3 : ¬ (nI k0).toInt = 3 := fun q => c_45_3 (Int32.toInt_inj.mp q)
          have z4 : ¬ (nI k0).toInt = 4 := fun q => c_45_4 (Int32.toInt_inj.mp q)
          omega
        have e_k : k0 = 5 := by rw [nI_toInt (by omega)] at c_45_d; omega
        refine lv_tableOut (tgt := 124) hxR hbR dX0_says_45 c_45_d (by decide) ?_
        refine lv_aload_n hxR hbR dX0_says_124 rfl (lv_at hl 1 rfl) ?_
        refine lv_aload_n hxR hbR dX0_says_125 rfl (lv_at hl 0 rfl) ?_
        refine r_castX hxR hbR hts hown q596 hK.xw (va_Nc.iA (iA.no hK.xw (row_castN (v := 5) hzo (by decide) (by decide)))) (row_isA hK hI (q0 := (14 + (5 + (4 + 0)))) hzo (he_r (Nat.le_of_ble_eq_true rfl) (Nat.le_of_ble_eq_true rfl) (he_r (Nat.le_of_ble_eq_true rfl) (Nat.le_of_ble_eq_true rfl) (he_r (Nat.le_of_ble_eq_true rfl) (Nat.le_of_ble_eq_true rfl) (he_l rfl))))) (pk_row hzo).1 (pk_man (kd := 5) (by decide) (by decide)).1 (pk_row hzo).2 (pk_man (kd := 5) (by decide) (by decide)).2 dX0_says_126 (fun tx ht1 ht2 => ?_)
        refine r_vm_cce hxR hlt hmlR hts hK hI hl.1 hlk ht1 ht2 (by decide) (by omega) (Nat.le_of_ble_eq_true rfl) (by omega) (fun H q9 ce_126 hI hq1 hq2 hq3 => ?_)
        refine r_catch 5 _ hown hts hK.xw htab rfl (List.forall_mem_cons.mpr ⟨Or.inl (by decide), (List.forall_mem_cons.mpr ⟨Or.inl (by decide), (List.forall_mem_cons.mpr ⟨Or.inl (by decide), (List.forall_mem_cons.mpr ⟨Or.inl (by decide), (List.forall_mem_cons.mpr ⟨Or.inl (by decide), (fun z hz => absurd hz List.not_mem_nil)⟩)⟩)⟩)⟩)⟩) (by decide) (by decide) q608 q620 hq1 hq2 hq3 ?_
        refine W.eq (g2 := F0 mR 133 ls [.ref q9]) rfl ?_
        have hI : wI E AR sR _ _ (rowW E (aqI P) zo zn (RI P) ++ (itsX (itF E aqI shI soI szI kmI bmI RI) P ++ (xW E ad iv ch rd tp rf (hdI shI aqI) (adn 10) tr (adg 8) dy im ++ (gW E adg ivg grg pag mog sgg tng ++ (tW E adn ivn hrn csn (sK K)))))) := wI_pick ([xW E ad iv ch rd tp rf (hdI shI aqI) (adn 10) tr (adg 8) dy im, gW E adg ivg grg pag mog sgg tng, tW E adn ivn hrn csn (sK K), rowW E (aqI P) zo zn (RI P), itsX (itF E aqI shI soI szI kmI bmI RI) P]) [3, 4, 0, 1, 2] 5 rfl (by decide) hI
        have hI := its_in (f := itF E aqI shI soI szI kmI bmI RI) (g := itF E aqI shI soI szI kmI bmI RI) hP (fun _ _ => rfl) (itF_row c_h hzo9 hzn9 (by omega) (by omega)) hI
        have hI : wI E AR sR _ _ (itsW (itF E aqI shI soI szI kmI bmI RI) ++ (xW E ad iv ch rd tp rf (hdI shI aqI) (adn 10) tr (adg 8) dy im ++ (gW E adg ivg grg pag mog sgg tng ++ (tW E adn ivn hrn csn (sK K))))) := hI
        have hI : wI E AR sR _ _ (xW E ad iv ch rd tp rf (hdI shI aqI) (adn 10) tr (adg 8) dy im ++ (gW E adg ivg grg pag mog sgg tng ++ (tW E adn ivn hrn csn (sK K) ++ (itsW (itF E aqI shI soI szI kmI bmI RI))))) := wI_pick ([itsW (itF E aqI shI soI szI kmI bmI RI), xW E ad iv ch rd tp rf (hdI shI aqI) (adn 10) tr (adg 8) dy im, gW E adg ivg grg pag mog sgg tng, tW E adn ivn hrn csn (sK K)]) [1, 2, 3, 0] 4 rfl (by decide) hI
        refine lv_astore (lv' := [(4, .ref q9), (3, .ref (aqI P)), (0, .ref (ad 11)), (1, .int (nI P)), (2, .int (nI k0))]) hxR hbR dX0_says_133 hl (by decide) rfl (fun ls hl => ?_)
        refine lv_aload_n hxR hbR dX0_says_135 rfl (lv_at hl 2 rfl) ?_
        refine lv_bipush (v := (-3)) hxR hbR dX0_says_136 (by decide) ?_
        refine kVI (n := 1) (As := [.int (-3)]) (rest := []) (fun w => w ++ (gW E adg ivg grg pag mog sgg tng ++ (tW E adn ivn hrn csn (sK K) ++ (itsW (itF E aqI shI soI szI kmI bmI RI))))) hxR hbR hmlR hts hown hK hA hl.1 (isCtx.suf _) hI (c0_no l E ad iv ch rd tp rf (hdI shI aqI) (adn 10) tr (adg 8) dy im (-3) 3 (by decide) (by decide)) (lw_V q396 q398 qs2 q81 q399) ⟨rfl, by decide +kernel⟩ 8 0 rfl rfl xW_o rfl (Nat.le_of_ble_eq_true rfl) (Nat.le_of_ble_eq_true rfl) ⟨Nat.le_of_ble_eq_true rfl, Nat.le_of_ble_eq_true rfl⟩ (Nat.le_of_ble_eq_true rfl) dX0_says_138 (fun r_138 u H locs hp hI hz => ?_)
        have hI : wI E AR sR H locs (xW E ad iv ch rd tp (va_up rf 3 (rf 3 + 1)) (hdI shI aqI) (adn 10) tr (adg 8) dy im ++ (gW E adg ivg grg pag mog sgg tng ++ (tW E adn ivn hrn csn (sK K) ++ (itsW (itF E aqI shI soI szI kmI bmI RI))))) := hI
        have hp : r_138 = (-3) := hp
        have hr_138 := hp
        subst hr_138
        have hC : saysC shI kmI (nI P) (nI k0) = (-3) := by
          clear hret hI
          unfold saysC; rw [if_pos ⟨c_1, c_10⟩, nI_clamp (n := P) (by omega), nI_clamp (n := k0) (by omega)]; exact if_pos (Or.inl c_h)
        have erf : bumpR rf (saysC shI kmI (nI P) (nI k0)) = va_up rf 3 (rf 3 + 1) := by rw [hC]; exact bump_3 _
        have hI := wI_w (ws' := xW E ad iv ch rd tp (bumpR rf (saysC shI kmI (nI P) (nI k0))) (hdI shI aqI) (adn 10) tr (adg 8) dy im ++ (gW E adg (va_up ivg 5 (ivg 5)) grg pag mog sgg tng ++ (tW E adn ivn hrn csn (sK K) ++ (itsW (itF E aqI shI soI szI kmI bmI RI))))) (by rw [erf, va_up_id (f := ivg) (k := 5) (v := ivg 5) rfl]; try rfl) hI
        exact hret (mog, sgg, grg, pag, tng, ivg 5) (-3) _ _ (0 + 3) (0 + (1000 + 10)) _ _ dX0_says_141 hI (by show (-3) = gd (saysC shI kmI (nI P) (nI k0)) (saysV kmI bmI K csn n st (nI P) (nI k0)) (saysC shI kmI (nI P) (nI k0)); rw [hC]; first | rfl | (simp only [nI_clamp (n := P) (by omega), nI_clamp (n := k0) (by omega)]; rfl) | (simp only [gd_0, nI_clamp (n := P) (by omega), nI_clamp (n := k0) (by omega)]; split <;> first | rfl | contradiction)) (Nat.le_of_ble_eq_true rfl) (Nat.le_of_ble_eq_true rfl) rfl
      · skip
        refine r_get hxR hbR hts hown hK hI okX4 (ci := 4) rfl P (he_l (xW_s P hP)) 0 (by decide) q258 rfl (v := .ref (aqI P)) (congrArg (fun z => some (va_rf z)) (hdI_2 c_h)) dX0_says_29 ?_
        have hI : wI E AR sR _ _ (itsW (itF E aqI shI soI szI kmI bmI RI) ++ (xW E ad iv ch rd tp rf (hdI shI aqI) (adn 10) tr (adg 8) dy im ++ (gW E adg ivg grg pag mog sgg tng ++ (tW E adn ivn hrn csn (sK K))))) := wI_pick ([xW E ad iv ch rd tp rf (hdI shI aqI) (adn 10) tr (adg 8) dy im, gW E adg ivg grg pag mog sgg tng, tW E adn ivn hrn csn (sK K), itsW (itF E aqI shI soI szI kmI bmI RI)]) [3, 0, 1, 2] 4 rfl (by decide) hI
        obtain ⟨zk, hk1m, hk5m, hzk9⟩ := hkm P hP c_h
        obtain ⟨zb, hzb, hzb9⟩ := hbm P hP
        have hI := its_out (f := itF E aqI shI soI szI kmI bmI RI) hP (itF_man c_h hzk9 (by omega)) hI
        have hI : wI E AR sR _ _ (manW E (aqI P) zk (bmI P) ++ (itsX (itF E aqI shI soI szI kmI bmI RI) P ++ (xW E ad iv ch rd tp rf (hdI shI aqI) (adn 10) tr (adg 8) dy im ++ (gW E adg ivg grg pag mog sgg tng ++ (tW E adn ivn hrn csn (sK K)))))) := hI
        have hI : wI E AR sR _ _ (xW E ad iv ch rd tp rf (hdI shI aqI) (adn 10) tr (adg 8) dy im ++ (gW E adg ivg grg pag mog sgg tng ++ (tW E adn ivn hrn csn (sK K) ++ (manW E (aqI P) zk (bmI P) ++ (itsX (itF E aqI shI soI szI kmI bmI RI) P))))) := wI_pick ([manW E (aqI P) zk (bmI P), itsX (itF E aqI shI soI szI kmI bmI RI) P, xW E ad iv ch rd tp rf (hdI shI aqI) (adn 10) tr (adg 8) dy im, gW E adg ivg grg pag mog sgg tng, tW E adn ivn hrn csn (sK K)]) [2, 3, 4, 0, 1] 5 rfl (by decide) hI
        refine lv_astore_n (lv' := [(3, .ref (aqI P)), (0, .ref (ad 11)), (1, .int (nI P)), (2, .int (nI k0))]) hxR hbR dX0_says_32 rfl hl (by decide) rfl (fun ls hl => ?_)
        refine lv_aload_n hxR hbR dX0_says_33 rfl (lv_at hl 0 rfl) ?_
        refine lv_ifnonnull (tgt := 44) hxR hbR dX0_says_34 (by decide) ?_
        refine lv_iload_n hxR hbR dX0_says_44 rfl (lv_at hl 3 rfl) ?_
        by_cases c_45_0 : nI k0 = 0
        · skip
          have e_k : k0 = 0 := (n_eq (a := k0) (b := 0) (by omega) (by omega)).mp c_45_0
          refine lv_tableIn (off := 35) (tgt := 80) hxR hbR dX0_says_45 (by rw [c_45_0]; decide) (by rw [c_45_0]; decide) (by rw [c_45_0]; rfl) (by decide) ?_
          refine lv_aload_n hxR hbR dX0_says_80 rfl (lv_at hl 0 rfl) ?_
          have hu : isUndV zk 0 = true := by unfold isUndV; exact decide_eq_true (Or.inl rfl)
          refine r_castT hxR hbR hts hown q434 (man_iA hK hk1m hk5m) (man_isA hK hI (q0 := (14 + (5 + (4 + 0)))) hk1m hk5m (he_r (Nat.le_of_ble_eq_true rfl) (Nat.le_of_ble_eq_true rfl) (he_r (Nat.le_of_ble_eq_true rfl) (Nat.le_of_ble_eq_true rfl) (he_r (Nat.le_of_ble_eq_true rfl) (Nat.le_of_ble_eq_true rfl) (he_l rfl))))) dX0_says_81 ?_
          refine r_manget hxR hbR hts hown hK hI hk1m hk5m (14 + (5 + (4 + 0))) (he_r (Nat.le_of_ble_eq_true rfl) (Nat.le_of_ble_eq_true rfl) (he_r (Nat.le_of_ble_eq_true rfl) (Nat.le_of_ble_eq_true rfl) (he_r (Nat.le_of_ble_eq_true rfl) (Nat.le_of_ble_eq_true rfl) (he_l rfl)))) q568 dX0_says_84 ?_
          have hI : wI E AR sR _ _ (manW E (aqI P) zk (bmI P) ++ (itsX (itF E aqI shI soI szI kmI bmI RI) P ++ (xW E ad iv ch rd tp rf (hdI shI aqI) (adn 10) tr (adg 8) dy im ++ (gW E adg ivg grg pag mog sgg tng ++ (tW E adn ivn hrn csn (sK K)))))) := wI_pick ([xW E ad iv ch rd tp rf (hdI shI aqI) (adn 10) tr (adg 8) dy im, gW E adg ivg grg pag mog sgg tng, tW E adn ivn hrn csn (sK K), manW E (aqI P) zk (bmI P), itsX (itF E aqI shI soI szI kmI bmI RI) P]) [3, 4, 0, 1, 2] 5 rfl (by decide) hI
          have hI := its_in (f := itF E aqI shI soI szI kmI bmI RI) (g := itF E aqI shI soI szI kmI bmI RI) hP (fun _ _ => rfl) (itF_man c_h hzk9 (by omega)) hI
          have hI : wI E AR sR _ _ (itsW (itF E aqI shI soI szI kmI bmI RI) ++ (xW E ad iv ch rd tp rf (hdI shI aqI) (adn 10) tr (adg 8) dy im ++ (gW E adg ivg grg pag mog sgg tng ++ (tW E adn ivn hrn csn (sK K))))) := hI
          have hI : wI E AR sR _ _ (xW E ad iv ch rd tp rf (hdI shI aqI) (adn 10) tr (adg 8) dy im ++ (gW E adg ivg grg pag mog sgg tng ++ (tW E adn ivn hrn csn (sK K) ++ (itsW (itF E aqI shI soI szI kmI bmI RI))))) := wI_pick ([itsW (itF E aqI shI soI szI kmI bmI RI), xW E ad iv ch rd tp rf (hdI shI aqI) (adn 10) tr (adg 8) dy im, gW E adg ivg grg pag mog sgg tng, tW E adn ivn hrn csn (sK K)]) [1, 2, 3, 0] 4 rfl (by decide) hI
          have hC : saysC shI kmI (nI P) (nI k0) = 0 := by
            clear hret hI
            unfold saysC; rw [if_pos ⟨c_1, c_10⟩, nI_clamp (n := P) (by omega), nI_clamp (n := k0) (by omega)]; rw [hzk9, nI_clamp (n := zk) (by omega)]; rw [if_neg (fun z => z.elim (fun q => absurd (c_h.symm.trans q) (by decide)) (fun q => absurd q.2 (by rw [e_k, hu]; decide)))]; exact if_neg (by rw [c_h]; decide)
          have erf : bumpR rf (saysC shI kmI (nI P) (nI k0)) = rf := by rw [hC]; exact bump_0 _
          have hI := wI_w (ws' := xW E ad iv ch rd tp (bumpR rf (saysC shI kmI (nI P) (nI k0))) (hdI shI aqI) (adn 10) tr (adg 8) dy im ++ (gW E adg (va_up ivg 5 (ivg 5)) grg pag mog sgg tng ++ (tW E adn ivn hrn csn (sK K) ++ (itsW (itF E aqI shI soI szI kmI bmI RI))))) (by rw [erf, va_up_id (f := ivg) (k := 5) (v := ivg 5) rfl]; try rfl) hI
          exact hret (mog, sgg, grg, pag, tng, ivg 5) (bmI P) _ _ 0 0 _ _ dX0_says_87 hI (by show (bmI P) = gd (saysC shI kmI (nI P) (nI k0)) (saysV kmI bmI K csn n st (nI P) (nI k0)) (saysC shI kmI (nI P) (nI k0)); rw [hC, gd_0]; unfold saysV; rw [if_pos c_45_0, nI_clamp (n := P) (by omega)]) (Nat.le_of_ble_eq_true rfl) (Nat.le_of_ble_eq_true rfl) rfl
        by_cases c_45_1 : nI k0 = 1
        · skip
          have e_k : k0 = 1 := (n_eq (a := k0) (b := 1) (by omega) (by omega)).mp c_45_1
          refine lv_tableIn (off := 43) (tgt := 88) hxR hbR dX0_says_45 (by rw [c_45_1]; decide) (by rw [c_45_1]; decide) (by rw [c_45_1]; rfl) (by decide) ?_
          refine lv_aload_n hxR hbR dX0_says_88 rfl (lv_at hl 1 rfl) ?_
          refine lv_aload_n hxR hbR dX0_says_89 rfl (lv_at hl 0 rfl) ?_
          cases hu : isUndV zk 1
          · skip
            refine r_castX hxR hbR hts hown q556 hK.xw (man_castN (v := 1) hK.xw hk1m hk5m (by decide) (by decide) hu) (man_isA hK hI (q0 := (14 + (5 + (4 + 0)))) hk1m hk5m (he_r (Nat.le_of_ble_eq_true rfl) (Nat.le_of_ble_eq_true rfl) (he_r (Nat.le_of_ble_eq_true rfl) (Nat.le_of_ble_eq_true rfl) (he_r (Nat.le_of_ble_eq_true rfl) (Nat.le_of_ble_eq_true rfl) (he_l rfl))))) (pk_man hk1m hk5m).1 (pk_man (kd := 1) (by decide) (by decide)).1 (pk_man hk1m hk5m).2 (pk_man (kd := 1) (by decide) (by decide)).2 dX0_says_90 (fun tx ht1 ht2 => ?_)
            refine r_vm_cce hxR hlt hmlR hts hK hI hl.1 hlk ht1 ht2 (by decide) (by omega) (Nat.le_of_ble_eq_true rfl) (by omega) (fun H q9 ce_90 hI hq1 hq2 hq3 => ?_)
            refine r_catch 1 _ hown hts hK.xw htab rfl (List.forall_mem_cons.mpr ⟨Or.inl (by decide), (fun z hz => absurd hz List.not_mem_nil)⟩) (by decide) (by decide) q608 q620 hq1 hq2 hq3 ?_
            refine W.eq (g2 := F0 mR 133 ls [.ref q9]) rfl ?_
            have hI : wI E AR sR _ _ (manW E (aqI P) zk (bmI P) ++ (itsX (itF E aqI shI soI szI kmI bmI RI) P ++ (xW E ad iv ch rd tp rf (hdI shI aqI) (adn 10) tr (adg 8) dy im ++ (gW E adg ivg grg pag mog sgg tng ++ (tW E adn ivn hrn csn (sK K)))))) := wI_pick ([xW E ad iv ch rd tp rf (hdI shI aqI) (adn 10) tr (adg 8) dy im, gW E adg ivg grg pag mog sgg tng, tW E adn ivn hrn csn (sK K), manW E (aqI P) zk (bmI P), itsX (itF E aqI shI soI szI kmI bmI RI) P]) [3, 4, 0, 1, 2] 5 rfl (by decide) hI
            have hI := its_in (f := itF E aqI shI soI szI kmI bmI RI) (g := itF E aqI shI soI szI kmI bmI RI) hP (fun _ _ => rfl) (itF_man c_h hzk9 (by omega)) hI
            have hI : wI E AR sR _ _ (itsW (itF E aqI shI soI szI kmI bmI RI) ++ (xW E ad iv ch rd tp rf (hdI shI aqI) (adn 10) tr (adg 8) dy im ++ (gW E adg ivg grg pag mog sgg tng ++ (tW E adn ivn hrn csn (sK K))))) := hI
            have hI : wI E AR sR _ _ (xW E ad iv ch rd tp rf (hdI shI aqI) (adn 10) tr (adg 8) dy im ++ (gW E adg ivg grg pag mog sgg tng ++ (tW E adn ivn hrn csn (sK K) ++ (itsW (itF E aqI shI soI szI kmI bmI RI))))) := wI_pick ([itsW (itF E aqI shI soI szI kmI bmI RI), xW E ad iv ch rd tp rf (hdI shI aqI) (adn 10) tr (adg 8) dy im, gW E adg ivg grg pag mog sgg tng, tW E adn ivn hrn csn (sK K)]) [1, 2, 3, 0] 4 rfl (by decide) hI
            refine lv_astore (lv' := [(4, .ref q9), (3, .ref (aqI P)), (0, .ref (ad 11)), (1, .int (nI P)), (2, .int (nI k0))]) hxR hbR dX0_says_133 hl (by decide) rfl (fun ls hl => ?_)
            refine lv_aload_n hxR hbR dX0_says_135 rfl (lv_at hl 2 rfl) ?_
            refine lv_bipush (v := (-3)) hxR hbR dX0_says_136 (by decide) ?_
            refine kVI (n := 1) (As := [.int (-3)]) (rest := []) (fun w => w ++ (gW E adg ivg grg pag mog sgg tng ++ (tW E adn ivn hrn csn (sK K) ++ (itsW (itF E aqI shI soI szI kmI bmI RI))))) hxR hbR hmlR hts hown hK hA hl.1 (isCtx.suf _) hI (c0_no l E ad iv ch rd tp rf (hdI shI aqI) (adn 10) tr (adg 8) dy im (-3) 3 (by decide) (by decide)) (lw_V q396 q398 qs2 q81 q399) ⟨rfl, by decide +kernel⟩ 8 0 rfl rfl xW_o rfl (Nat.le_of_ble_eq_true rfl) (Nat.le_of_ble_eq_true rfl) ⟨Nat.le_of_ble_eq_true rfl, Nat.le_of_ble_eq_true rfl⟩ (Nat.le_of_ble_eq_true rfl) dX0_says_138 (fun r_138 u H locs hp hI hz => ?_)
            have hI : wI E AR sR H locs (xW E ad iv ch rd tp (va_up rf 3 (rf 3 + 1)) (hdI shI aqI) (adn 10) tr (adg 8) dy im ++ (gW E adg ivg grg pag mog sgg tng ++ (tW E adn ivn hrn csn (sK K) ++ (itsW (itF E aqI shI soI szI kmI bmI RI))))) := hI
            have hp : r_138 = (-3) := hp
            have hr_138 := hp
            subst hr_138
            have hC : saysC shI kmI (nI P) (nI k0) = (-3) := by
              clear hret hI
              unfold saysC; rw [if_pos ⟨c_1, c_10⟩, nI_clamp (n := P) (by omega), nI_clamp (n := k0) (by omega)]; rw [hzk9, nI_clamp (n := zk) (by omega)]; exact if_pos (Or.inr ⟨c_h, by rw [e_k]; exact hu⟩)
            have erf : bumpR rf (saysC shI kmI (nI P) (nI k0)) = va_up rf 3 (rf 3 + 1) := by rw [hC]; exact bump_3 _
            have hI := wI_w (ws' := xW E ad iv ch rd tp (bumpR rf (saysC shI kmI (nI P) (nI k0))) (hdI shI aqI) (adn 10) tr (adg 8) dy im ++ (gW E adg (va_up ivg 5 (ivg 5)) grg pag mog sgg tng ++ (tW E adn ivn hrn csn (sK K) ++ (itsW (itF E aqI shI soI szI kmI bmI RI))))) (by rw [erf, va_up_id (f := ivg) (k := 5) (v := ivg 5) rfl]; try rfl) hI
            exact hret (mog, sgg, grg, pag, tng, ivg 5) (-3) _ _ (0 + 3) (0 + (1000 + 10)) _ _ dX0_says_141 hI (by show (-3) = gd (saysC shI kmI (nI P) (nI k0)) (saysV kmI bmI K csn n st (nI P) (nI k0)) (saysC shI kmI (nI P) (nI k0)); rw [hC]; first | rfl | (simp only [nI_clamp (n := P) (by omega), nI_clamp (n := k0) (by omega)]; rfl) | (simp only [gd_0, nI_clamp (n := P) (by omega), nI_clamp (n := k0) (by omega)]; split <;> first | rfl | contradiction)) (Nat.le_of_ble_eq_true rfl) (Nat.le_of_ble_eq_true rfl) rfl
          · skip
            refine r_castT hxR hbR hts hown q556 (man_castY (v := 1) hK.xw (man_isA hK hI (q0 := (14 + (5 + (4 + 0)))) hk1m hk5m (he_r (Nat.le_of_ble_eq_true rfl) (Nat.le_of_ble_eq_true rfl) (he_r (Nat.le_of_ble_eq_true rfl) (Nat.le_of_ble_eq_true rfl) (he_r (Nat.le_of_ble_eq_true rfl) (Nat.le_of_ble_eq_true rfl) (he_l rfl))))) hk1m hk5m (by decide) (by decide) hu) (man_isA hK hI (q0 := (14 + (5 + (4 + 0)))) hk1m hk5m (he_r (Nat.le_of_ble_eq_true rfl) (Nat.le_of_ble_eq_true rfl) (he_r (Nat.le_of_ble_eq_true rfl) (Nat.le_of_ble_eq_true rfl) (he_r (Nat.le_of_ble_eq_true rfl) (Nat.le_of_ble_eq_true rfl) (he_l rfl))))) dX0_says_90 ?_
            have hI : wI E AR sR _ _ (xW E ad iv ch rd tp rf (hdI shI aqI) (adn 10) tr (adg 8) dy im ++ (manW E (aqI P) zk (bmI P) ++ (gW E adg ivg grg pag mog sgg tng ++ (tW E adn ivn hrn csn (sK K) ++ (itsX (itF E aqI shI soI szI kmI bmI RI) P))))) := wI_pick ([xW E ad iv ch rd tp rf (hdI shI aqI) (adn 10) tr (adg 8) dy im, gW E adg ivg grg pag mog sgg tng, tW E adn ivn hrn csn (sK K), manW E (aqI P) zk (bmI P), itsX (itF E aqI shI soI szI kmI bmI RI) P]) [0, 3, 1, 2, 4] 5 rfl (by decide) hI
            have hI := wI_w app4 hI
            refine kVI (n := 1) (As := [.ref (aqI P)]) (rest := []) (fun w => w ++ (itsX (itF E aqI shI soI szI kmI bmI RI) P)) hxR hbR hmlR hts hown hK hA hl.1 (isCtx.suf _) hI (c0_says_2 l E ad iv ch rd tp rf (hdI shI aqI) tr dy im (aqI P) zk (bmI P) adg ivg grg pag mog sgg tng adn ivn hrn csn K n st zb hn hst (by first | omega | with_reducible assumption) (by first | omega | with_reducible assumption) (by first | omega | with_reducible assumption) (by first | omega | with_reducible assumption) hk1m hk5m hzb hzb9) (lw_V q622 q624 qs4 q81 q625) ⟨rfl, by decide +kernel⟩ 8 0 rfl rfl (he_l xW_o) rfl (Nat.le_of_ble_eq_true rfl) (Nat.le_of_ble_eq_true rfl) ⟨Nat.le_of_ble_eq_true rfl, Nat.le_of_ble_eq_true rfl⟩ (Nat.le_of_ble_eq_true rfl) dX0_says_93 (fun r_93 u H locs hp hI hz => ?_)
            obtain ⟨mo2_93, sg2_93, gr2_93, pa2_93, tn2_93, c5_93⟩ := u
            have hI := wI_w app4.symm hI
            have hI : wI E AR sR H locs (xW E ad iv ch rd tp rf (hdI shI aqI) (adn 10) tr (adg 8) dy im ++ (manW E (aqI P) zk (bmI P) ++ (gW E adg (va_up ivg 5 c5_93) gr2_93 pa2_93 mo2_93 sg2_93 tn2_93 ++ (tW E adn ivn hrn csn (sK K) ++ (itsX (itF E aqI shI soI szI kmI bmI RI) P))))) := hI
            have hI : wI E AR sR _ _ (xW E ad iv ch rd tp rf (hdI shI aqI) (adn 10) tr (adg 8) dy im ++ (gW E adg (va_up ivg 5 c5_93) gr2_93 pa2_93 mo2_93 sg2_93 tn2_93 ++ (tW E adn ivn hrn csn (sK K) ++ (manW E (aqI P) zk (bmI P) ++ (itsX (itF E aqI shI soI szI kmI bmI RI) P))))) := wI_pick ([xW E ad iv ch rd tp rf (hdI shI aqI) (adn 10) tr (adg 8) dy im, manW E (aqI P) zk (bmI P), gW E adg (va_up ivg 5 c5_93) gr2_93 pa2_93 mo2_93 sg2_93 tn2_93, tW E adn ivn hrn csn (sK K), itsX (itF E aqI shI soI szI kmI bmI RI) P]) [0, 2, 3, 1, 4] 5 rfl (by decide) hI
            have hp : r_93 = nI (sentV K csn n st zk zb (2 ^ n - 1) 0) := hp
            have hr_93 := hp
            subst hr_93
            have hI : wI E AR sR _ _ (manW E (aqI P) zk (bmI P) ++ (itsX (itF E aqI shI soI szI kmI bmI RI) P ++ (xW E ad iv ch rd tp rf (hdI shI aqI) (adn 10) tr (adg 8) dy im ++ (gW E adg (va_up ivg 5 c5_93) gr2_93 pa2_93 mo2_93 sg2_93 tn2_93 ++ (tW E adn ivn hrn csn (sK K)))))) := wI_pick ([xW E ad iv ch rd tp rf (hdI shI aqI) (adn 10) tr (adg 8) dy im, gW E adg (va_up ivg 5 c5_93) gr2_93 pa2_93 mo2_93 sg2_93 tn2_93, tW E adn ivn hrn csn (sK K), manW E (aqI P) zk (bmI P), itsX (itF E aqI shI soI szI kmI bmI RI) P]) [3, 4, 0, 1, 2] 5 rfl (by decide) hI
            have hI := its_in (f := itF E aqI shI soI szI kmI bmI RI) (g := itF E aqI shI soI szI kmI bmI RI) hP (fun _ _ => rfl) (itF_man c_h hzk9 (by omega)) hI
            have hI : wI E AR sR _ _ (itsW (itF E aqI shI soI szI kmI bmI RI) ++ (xW E ad iv ch rd tp rf (hdI shI aqI) (adn 10) tr (adg 8) dy im ++ (gW E adg (va_up ivg 5 c5_93) gr2_93 pa2_93 mo2_93 sg2_93 tn2_93 ++ (tW E adn ivn hrn csn (sK K))))) := hI
            have hI : wI E AR sR _ _ (xW E ad iv ch rd tp rf (hdI shI aqI) (adn 10) tr (adg 8) dy im ++ (gW E adg (va_up ivg 5 c5_93) gr2_93 pa2_93 mo2_93 sg2_93 tn2_93 ++ (tW E adn ivn hrn csn (sK K) ++ (itsW (itF E aqI shI soI szI kmI bmI RI))))) := wI_pick ([itsW (itF E aqI shI soI szI kmI bmI RI), xW E ad iv ch rd tp rf (hdI shI aqI) (adn 10) tr (adg 8) dy im, gW E adg (va_up ivg 5 c5_93) gr2_93 pa2_93 mo2_93 sg2_93 tn2_93, tW E adn ivn hrn csn (sK K)]) [1, 2, 3, 0] 4 rfl (by decide) hI
            have hC : saysC shI kmI (nI P) (nI k0) = 0 := by
              clear hret hI
              unfold saysC; rw [if_pos ⟨c_1, c_10⟩, nI_clamp (n := P) (by omega), nI_clamp (n := k0) (by omega)]; rw [hzk9, nI_clamp (n := zk) (by omega)]; rw [if_neg (fun z => z.elim (fun q => absurd (c_h.symm.trans q) (by decide)) (fun q => absurd q.2 (by rw [e_k, hu]; decide)))]; exact if_neg (by rw [c_h]; decide)
            have erf : bumpR rf (saysC shI kmI (nI P) (nI k0)) = rf := by rw [hC]; exact bump_0 _
            have hI := wI_w (ws' := xW E ad iv ch rd tp (bumpR rf (saysC shI kmI (nI P) (nI k0))) (hdI shI aqI) (adn 10) tr (adg 8) dy im ++ (gW E adg (va_up ivg 5 c5_93) gr2_93 pa2_93 mo2_93 sg2_93 tn2_93 ++ (tW E adn ivn hrn csn (sK K) ++ (itsW (itF E aqI shI soI szI kmI bmI RI))))) (by rw [erf]; try rfl) hI
            exact hret (mo2_93, sg2_93, gr2_93, pa2_93, tn2_93, c5_93) (nI (sentV K csn n st zk zb (2 ^ n - 1) 0)) _ _ 0 0 _ _ dX0_says_96 hI (by show (nI (sentV K csn n st zk zb (2 ^ n - 1) 0)) = gd (saysC shI kmI (nI P) (nI k0)) (saysV kmI bmI K csn n st (nI P) (nI k0)) (saysC shI kmI (nI P) (nI k0)); rw [hC, gd_0]; unfold saysV; rw [if_neg (by rw [e_k]; decide), nI_clamp (n := P) (by omega), hzk9, nI_clamp (n := zk) (by omega), hzb9, nI_clamp (n := zb) (by omega)]) (Nat.le_of_ble_eq_true rfl) (Nat.le_of_ble_eq_true rfl) rfl
        by_cases c_45_2 : nI k0 = 2
        · skip
          have e_k : k0 = 2 := (n_eq (a := k0) (b := 2) (by omega) (by omega)).mp c_45_2
          refine lv_tableIn (off := 52) (tgt := 97) hxR hbR dX0_says_45 (by rw [c_45_2]; decide) (by rw [c_45_2]; decide) (by rw [c_45_2]; rfl) (by decide) ?_
          refine lv_aload_n hxR hbR dX0_says_97 rfl (lv_at hl 1 rfl) ?_
          refine lv_aload_n hxR hbR dX0_says_98 rfl (lv_at hl 0 rfl) ?_
          cases hu : isUndV zk 2
          · skip
            refine r_castX hxR hbR hts hown q572 hK.xw (man_castN (v := 2) hK.xw hk1m hk5m (by decide) (by decide) hu) (man_isA hK hI (q0 := (14 + (5 + (4 + 0)))) hk1m hk5m (he_r (Nat.le_of_ble_eq_true rfl) (Nat.le_of_ble_eq_true rfl) (he_r (Nat.le_of_ble_eq_true rfl) (Nat.le_of_ble_eq_true rfl) (he_r (Nat.le_of_ble_eq_true rfl) (Nat.le_of_ble_eq_true rfl) (he_l rfl))))) (pk_man hk1m hk5m).1 (pk_man (kd := 2) (by decide) (by decide)).1 (pk_man hk1m hk5m).2 (pk_man (kd := 2) (by decide) (by decide)).2 dX0_says_99 (fun tx ht1 ht2 => ?_)
            refine r_vm_cce hxR hlt hmlR hts hK hI hl.1 hlk ht1 ht2 (by decide) (by omega) (Nat.le_of_ble_eq_true rfl) (by omega) (fun H q9 ce_99 hI hq1 hq2 hq3 => ?_)
            refine r_catch 2 _ hown hts hK.xw htab rfl (List.forall_mem_cons.mpr ⟨Or.inl (by decide), (List.forall_mem_cons.mpr ⟨Or.inl (by decide), (fun z hz => absurd hz List.not_mem_nil)⟩)⟩) (by decide) (by decide) q608 q620 hq1 hq2 hq3 ?_
            refine W.eq (g2 := F0 mR 133 ls [.ref q9]) rfl ?_
            have hI : wI E AR sR _ _ (manW E (aqI P) zk (bmI P) ++ (itsX (itF E aqI shI soI szI kmI bmI RI) P ++ (xW E ad iv ch rd tp rf (hdI shI aqI) (adn 10) tr (adg 8) dy im ++ (gW E adg ivg grg pag mog sgg tng ++ (tW E adn ivn hrn csn (sK K)))))) := wI_pick ([xW E ad iv ch rd tp rf (hdI shI aqI) (adn 10) tr (adg 8) dy im, gW E adg ivg grg pag mog sgg tng, tW E adn ivn hrn csn (sK K), manW E (aqI P) zk (bmI P), itsX (itF E aqI shI soI szI kmI bmI RI) P]) [3, 4, 0, 1, 2] 5 rfl (by decide) hI
            have hI := its_in (f := itF E aqI shI soI szI kmI bmI RI) (g := itF E aqI shI soI szI kmI bmI RI) hP (fun _ _ => rfl) (itF_man c_h hzk9 (by omega)) hI
            have hI : wI E AR sR _ _ (itsW (itF E aqI shI soI szI kmI bmI RI) ++ (xW E ad iv ch rd tp rf (hdI shI aqI) (adn 10) tr (adg 8) dy im ++ (gW E adg ivg grg pag mog sgg tng ++ (tW E adn ivn hrn csn (sK K))))) := hI
            have hI : wI E AR sR _ _ (xW E ad iv ch rd tp rf (hdI shI aqI) (adn 10) tr (adg 8) dy im ++ (gW E adg ivg grg pag mog sgg tng ++ (tW E adn ivn hrn csn (sK K) ++ (itsW (itF E aqI shI soI szI kmI bmI RI))))) := wI_pick ([itsW (itF E aqI shI soI szI kmI bmI RI), xW E ad iv ch rd tp rf (hdI shI aqI) (adn 10) tr (adg 8) dy im, gW E adg ivg grg pag mog sgg tng, tW E adn ivn hrn csn (sK K)]) [1, 2, 3, 0] 4 rfl (by decide) hI
            refine lv_astore (lv' := [(4, .ref q9), (3, .ref (aqI P)), (0, .ref (ad 11)), (1, .int (nI P)), (2, .int (nI k0))]) hxR hbR dX0_says_133 hl (by decide) rfl (fun ls hl => ?_)
            refine lv_aload_n hxR hbR dX0_says_135 rfl (lv_at hl 2 rfl) ?_
            refine lv_bipush (v := (-3)) hxR hbR dX0_says_136 (by decide) ?_
            refine kVI (n := 1) (As := [.int (-3)]) (rest := []) (fun w => w ++ (gW E adg ivg grg pag mog sgg tng ++ (tW E adn ivn hrn csn (sK K) ++ (itsW (itF E aqI shI soI szI kmI bmI RI))))) hxR hbR hmlR hts hown hK hA hl.1 (isCtx.suf _) hI (c0_no l E ad iv ch rd tp rf (hdI shI aqI) (adn 10) tr (adg 8) dy im (-3) 3 (by decide) (by decide)) (lw_V q396 q398 qs2 q81 q399) ⟨rfl, by decide +kernel⟩ 8 0 rfl rfl xW_o rfl (Nat.le_of_ble_eq_true rfl) (Nat.le_of_ble_eq_true rfl) ⟨Nat.le_of_ble_eq_true rfl, Nat.le_of_ble_eq_true rfl⟩ (Nat.le_of_ble_eq_true rfl) dX0_says_138 (fun r_138 u H locs hp hI hz => ?_)
            have hI : wI E AR sR H locs (xW E ad iv ch rd tp (va_up rf 3 (rf 3 + 1)) (hdI shI aqI) (adn 10) tr (adg 8) dy im ++ (gW E adg ivg grg pag mog sgg tng ++ (tW E adn ivn hrn csn (sK K) ++ (itsW (itF E aqI shI soI szI kmI bmI RI))))) := hI
            have hp : r_138 = (-3) := hp
            have hr_138 := hp
            subst hr_138
            have hC : saysC shI kmI (nI P) (nI k0) = (-3) := by
              clear hret hI
              unfold saysC; rw [if_pos ⟨c_1, c_10⟩, nI_clamp (n := P) (by omega), nI_clamp (n := k0) (by omega)]; rw [hzk9, nI_clamp (n := zk) (by omega)]; exact if_pos (Or.inr ⟨c_h, by rw [e_k]; exact hu⟩)
            have erf : bumpR rf (saysC shI kmI (nI P) (nI k0)) = va_up rf 3 (rf 3 + 1) := by rw [hC]; exact bump_3 _
            have hI := wI_w (ws' := xW E ad iv ch rd tp (bumpR rf (saysC shI kmI (nI P) (nI k0))) (hdI shI aqI) (adn 10) tr (adg 8) dy im ++ (gW E adg (va_up ivg 5 (ivg 5)) grg pag mog sgg tng ++ (tW E adn ivn hrn csn (sK K) ++ (itsW (itF E aqI shI soI szI kmI bmI RI))))) (by rw [erf, va_up_id (f := ivg) (k := 5) (v := ivg 5) rfl]; try rfl) hI
            exact hret (mog, sgg, grg, pag, tng, ivg 5) (-3) _ _ (0 + 3) (0 + (1000 + 10)) _ _ dX0_says_141 hI (by show (-3) = gd (saysC shI kmI (nI P) (nI k0)) (saysV kmI bmI K csn n st (nI P) (nI k0)) (saysC shI kmI (nI P) (nI k0)); rw [hC]; first | rfl | (simp only [nI_clamp (n := P) (by omega), nI_clamp (n := k0) (by omega)]; rfl) | (simp only [gd_0, nI_clamp (n := P) (by omega), nI_clamp (n := k0) (by omega)]; split <;> first | rfl | contradiction)) (Nat.le_of_ble_eq_true rfl) (Nat.le_of_ble_eq_true rfl) rfl
          · skip
            refine r_castT hxR hbR hts hown q572 (man_castY (v := 2) hK.xw (man_isA hK hI (q0 := (14 + (5 + (4 + 0)))) hk1m hk5m (he_r (Nat.le_of_ble_eq_true rfl) (Nat.le_of_ble_eq_true rfl) (he_r (Nat.le_of_ble_eq_true rfl) (Nat.le_of_ble_eq_true rfl) (he_r (Nat.le_of_ble_eq_true rfl) (Nat.le_of_ble_eq_true rfl) (he_l rfl))))) hk1m hk5m (by decide) (by decide) hu) (man_isA hK hI (q0 := (14 + (5 + (4 + 0)))) hk1m hk5m (he_r (Nat.le_of_ble_eq_true rfl) (Nat.le_of_ble_eq_true rfl) (he_r (Nat.le_of_ble_eq_true rfl) (Nat.le_of_ble_eq_true rfl) (he_r (Nat.le_of_ble_eq_true rfl) (Nat.le_of_ble_eq_true rfl) (he_l rfl))))) dX0_says_99 ?_
            have hI : wI E AR sR _ _ (xW E ad iv ch rd tp rf (hdI shI aqI) (adn 10) tr (adg 8) dy im ++ (manW E (aqI P) zk (bmI P) ++ (gW E adg ivg grg pag mog sgg tng ++ (tW E adn ivn hrn csn (sK K) ++ (itsX (itF E aqI shI soI szI kmI bmI RI) P))))) := wI_pick ([xW E ad iv ch rd tp rf (hdI shI aqI) (adn 10) tr (adg 8) dy im, gW E adg ivg grg pag mog sgg tng, tW E adn ivn hrn csn (sK K), manW E (aqI P) zk (bmI P), itsX (itF E aqI shI soI szI kmI bmI RI) P]) [0, 3, 1, 2, 4] 5 rfl (by decide) hI
            have hI := wI_w app4 hI
            refine kVI (n := 1) (As := [.ref (aqI P)]) (rest := []) (fun w => w ++ (itsX (itF E aqI shI soI szI kmI bmI RI) P)) hxR hbR hmlR hts hown hK hA hl.1 (isCtx.suf _) hI (c0_says_2 l E ad iv ch rd tp rf (hdI shI aqI) tr dy im (aqI P) zk (bmI P) adg ivg grg pag mog sgg tng adn ivn hrn csn K n st zb hn hst (by first | omega | with_reducible assumption) (by first | omega | with_reducible assumption) (by first | omega | with_reducible assumption) (by first | omega | with_reducible assumption) hk1m hk5m hzb hzb9) (lw_V q622 q624 qs4 q81 q625) ⟨rfl, by decide +kernel⟩ 8 0 rfl rfl (he_l xW_o) rfl (Nat.le_of_ble_eq_true rfl) (Nat.le_of_ble_eq_true rfl) ⟨Nat.le_of_ble_eq_true rfl, Nat.le_of_ble_eq_true rfl⟩ (Nat.le_of_ble_eq_true rfl) dX0_says_102 (fun r_102 u H locs hp hI hz => ?_)
            obtain ⟨mo2_102, sg2_102, gr2_102, pa2_102, tn2_102, c5_102⟩ := u
            have hI := wI_w app4.symm hI
            have hI : wI E AR sR H locs (xW E ad iv ch rd tp rf (hdI shI aqI) (adn 10) tr (adg 8) dy im ++ (manW E (aqI P) zk (bmI P) ++ (gW E adg (va_up ivg 5 c5_102) gr2_102 pa2_102 mo2_102 sg2_102 tn2_102 ++ (tW E adn ivn hrn csn (sK K) ++ (itsX (itF E aqI shI soI szI kmI bmI RI) P))))) := hI
            have hI : wI E AR sR _ _ (xW E ad iv ch rd tp rf (hdI shI aqI) (adn 10) tr (adg 8) dy im ++ (gW E adg (va_up ivg 5 c5_102) gr2_102 pa2_102 mo2_102 sg2_102 tn2_102 ++ (tW E adn ivn hrn csn (sK K) ++ (manW E (aqI P) zk (bmI P) ++ (itsX (itF E aqI shI soI szI kmI bmI RI) P))))) := wI_pick ([xW E ad iv ch rd tp rf (hdI shI aqI) (adn 10) tr (adg 8) dy im, manW E (aqI P) zk (bmI P), gW E adg (va_up ivg 5 c5_102) gr2_102 pa2_102 mo2_102 sg2_102 tn2_102, tW E adn ivn hrn csn (sK K), itsX (itF E aqI shI soI szI kmI bmI RI) P]) [0, 2, 3, 1, 4] 5 rfl (by decide) hI
            have hp : r_102 = nI (sentV K csn n st zk zb (2 ^ n - 1) 0) := hp
            have hr_102 := hp
            subst hr_102
            have hI : wI E AR sR _ _ (manW E (aqI P) zk (bmI P) ++ (itsX (itF E aqI shI soI szI kmI bmI RI) P ++ (xW E ad iv ch rd tp rf (hdI shI aqI) (adn 10) tr (adg 8) dy im ++ (gW E adg (va_up ivg 5 c5_102) gr2_102 pa2_102 mo2_102 sg2_102 tn2_102 ++ (tW E adn ivn hrn csn (sK K)))))) := wI_pick ([xW E ad iv ch rd tp rf (hdI shI aqI) (adn 10) tr (adg 8) dy im, gW E adg (va_up ivg 5 c5_102) gr2_102 pa2_102 mo2_102 sg2_102 tn2_102, tW E adn ivn hrn csn (sK K), manW E (aqI P) zk (bmI P), itsX (itF E aqI shI soI szI kmI bmI RI) P]) [3, 4, 0, 1, 2] 5 rfl (by decide) hI
            have hI := its_in (f := itF E aqI shI soI szI kmI bmI RI) (g := itF E aqI shI soI szI kmI bmI RI) hP (fun _ _ => rfl) (itF_man c_h hzk9 (by omega)) hI
            have hI : wI E AR sR _ _ (itsW (itF E aqI shI soI szI kmI bmI RI) ++ (xW E ad iv ch rd tp rf (hdI shI aqI) (adn 10) tr (adg 8) dy im ++ (gW E adg (va_up ivg 5 c5_102) gr2_102 pa2_102 mo2_102 sg2_102 tn2_102 ++ (tW E adn ivn hrn csn (sK K))))) := hI
            have hI : wI E AR sR _ _ (xW E ad iv ch rd tp rf (hdI shI aqI) (adn 10) tr (adg 8) dy im ++ (gW E adg (va_up ivg 5 c5_102) gr2_102 pa2_102 mo2_102 sg2_102 tn2_102 ++ (tW E adn ivn hrn csn (sK K) ++ (itsW (itF E aqI shI soI szI kmI bmI RI))))) := wI_pick ([itsW (itF E aqI shI soI szI kmI bmI RI), xW E ad iv ch rd tp rf (hdI shI aqI) (adn 10) tr (adg 8) dy im, gW E adg (va_up ivg 5 c5_102) gr2_102 pa2_102 mo2_102 sg2_102 tn2_102, tW E adn ivn hrn csn (sK K)]) [1, 2, 3, 0] 4 rfl (by decide) hI
            have hC : saysC shI kmI (nI P) (nI k0) = 0 := by
              clear hret hI
              unfold saysC; rw [if_pos ⟨c_1, c_10⟩, nI_clamp (n := P) (by omega), nI_clamp (n := k0) (by omega)]; rw [hzk9, nI_clamp (n := zk) (by omega)]; rw [if_neg (fun z => z.elim (fun q => absurd (c_h.symm.trans q) (by decide)) (fun q => absurd q.2 (by rw [e_k, hu]; decide)))]; exact if_neg (by rw [c_h]; decide)
            have erf : bumpR rf (saysC shI kmI (nI P) (nI k0)) = rf := by rw [hC]; exact bump_0 _
            have hI := wI_w (ws' := xW E ad iv ch rd tp (bumpR rf (saysC shI kmI (nI P) (nI k0))) (hdI shI aqI) (adn 10) tr (adg 8) dy im ++ (gW E adg (va_up ivg 5 c5_102) gr2_102 pa2_102 mo2_102 sg2_102 tn2_102 ++ (tW E adn ivn hrn csn (sK K) ++ (itsW (itF E aqI shI soI szI kmI bmI RI))))) (by rw [erf]; try rfl) hI
            exact hret (mo2_102, sg2_102, gr2_102, pa2_102, tn2_102, c5_102) (nI (sentV K csn n st zk zb (2 ^ n - 1) 0)) _ _ 0 0 _ _ dX0_says_105 hI (by show (nI (sentV K csn n st zk zb (2 ^ n - 1) 0)) = gd (saysC shI kmI (nI P) (nI k0)) (saysV kmI bmI K csn n st (nI P) (nI k0)) (saysC shI kmI (nI P) (nI k0)); rw [hC, gd_0]; unfold saysV; rw [if_neg (by rw [e_k]; decide), nI_clamp (n := P) (by omega), hzk9, nI_clamp (n := zk) (by omega), hzb9, nI_clamp (n := zb) (by omega)]) (Nat.le_of_ble_eq_true rfl) (Nat.le_of_ble_eq_true rfl) rfl
        by_cases c_45_3 : nI k0 = 3
        · skip
          have e_k : k0 = 3 := (n_eq (a := k0) (b := 3) (by omega) (by omega)).mp c_45_3
          refine lv_tableIn (off := 61) (tgt := 106) hxR hbR dX0_says_45 (by rw [c_45_3]; decide) (by rw [c_45_3]; decide) (by rw [c_45_3]; rfl) (by decide) ?_
          refine lv_aload_n hxR hbR dX0_says_106 rfl (lv_at hl 1 rfl) ?_
          refine lv_aload_n hxR hbR dX0_says_107 rfl (lv_at hl 0 rfl) ?_
          cases hu : isUndV zk 3
          · skip
            refine r_castX hxR hbR hts hown q580 hK.xw (man_castN (v := 3) hK.xw hk1m hk5m (by decide) (by decide) hu) (man_isA hK hI (q0 := (14 + (5 + (4 + 0)))) hk1m hk5m (he_r (Nat.le_of_ble_eq_true rfl) (Nat.le_of_ble_eq_true rfl) (he_r (Nat.le_of_ble_eq_true rfl) (Nat.le_of_ble_eq_true rfl) (he_r (Nat.le_of_ble_eq_true rfl) (Nat.le_of_ble_eq_true rfl) (he_l rfl))))) (pk_man hk1m hk5m).1 (pk_man (kd := 3) (by decide) (by decide)).1 (pk_man hk1m hk5m).2 (pk_man (kd := 3) (by decide) (by decide)).2 dX0_says_108 (fun tx ht1 ht2 => ?_)
            refine r_vm_cce hxR hlt hmlR hts hK hI hl.1 hlk ht1 ht2 (by decide) (by omega) (Nat.le_of_ble_eq_true rfl) (by omega) (fun H q9 ce_108 hI hq1 hq2 hq3 => ?_)
            refine r_catch 3 _ hown hts hK.xw htab rfl (List.forall_mem_cons.mpr ⟨Or.inl (by decide), (List.forall_mem_cons.mpr ⟨Or.inl (by decide), (List.forall_mem_cons.mpr ⟨Or.inl (by decide), (fun z hz => absurd hz List.not_mem_nil)⟩)⟩)⟩) (by decide) (by decide) q608 q620 hq1 hq2 hq3 ?_
            refine W.eq (g2 := F0 mR 133 ls [.ref q9]) rfl ?_
            have hI : wI E AR sR _ _ (manW E (aqI P) zk (bmI P) ++ (itsX (itF E aqI shI soI szI kmI bmI RI) P ++ (xW E ad iv ch rd tp rf (hdI shI aqI) (adn 10) tr (adg 8) dy im ++ (gW E adg ivg grg pag mog sgg tng ++ (tW E adn ivn hrn csn (sK K)))))) := wI_pick ([xW E ad iv ch rd tp rf (hdI shI aqI) (adn 10) tr (adg 8) dy im, gW E adg ivg grg pag mog sgg tng, tW E adn ivn hrn csn (sK K), manW E (aqI P) zk (bmI P), itsX (itF E aqI shI soI szI kmI bmI RI) P]) [3, 4, 0, 1, 2] 5 rfl (by decide) hI
            have hI := its_in (f := itF E aqI shI soI szI kmI bmI RI) (g := itF E aqI shI soI szI kmI bmI RI) hP (fun _ _ => rfl) (itF_man c_h hzk9 (by omega)) hI
            have hI : wI E AR sR _ _ (itsW (itF E aqI shI soI szI kmI bmI RI) ++ (xW E ad iv ch rd tp rf (hdI shI aqI) (adn 10) tr (adg 8) dy im ++ (gW E adg ivg grg pag mog sgg tng ++ (tW E adn ivn hrn csn (sK K))))) := hI
            have hI : wI E AR sR _ _ (xW E ad iv ch rd tp rf (hdI shI aqI) (adn 10) tr (adg 8) dy im ++ (gW E adg ivg grg pag mog sgg tng ++ (tW E adn ivn hrn csn (sK K) ++ (itsW (itF E aqI shI soI szI kmI bmI RI))))) := wI_pick ([itsW (itF E aqI shI soI szI kmI bmI RI), xW E ad iv ch rd tp rf (hdI shI aqI) (adn 10) tr (adg 8) dy im, gW E adg ivg grg pag mog sgg tng, tW E adn ivn hrn csn (sK K)]) [1, 2, 3, 0] 4 rfl (by decide) hI
            refine lv_astore (lv' := [(4, .ref q9), (3, .ref (aqI P)), (0, .ref (ad 11)), (1, .int (nI P)), (2, .int (nI k0))]) hxR hbR dX0_says_133 hl (by decide) rfl (fun ls hl => ?_)
            refine lv_aload_n hxR hbR dX0_says_135 rfl (lv_at hl 2 rfl) ?_
            refine lv_bipush (v := (-3)) hxR hbR dX0_says_136 (by decide) ?_
            refine kVI (n := 1) (As := [.int (-3)]) (rest := []) (fun w => w ++ (gW E adg ivg grg pag mog sgg tng ++ (tW E adn ivn hrn csn (sK K) ++ (itsW (itF E aqI shI soI szI kmI bmI RI))))) hxR hbR hmlR hts hown hK hA hl.1 (isCtx.suf _) hI (c0_no l E ad iv ch rd tp rf (hdI shI aqI) (adn 10) tr (adg 8) dy im (-3) 3 (by decide) (by decide)) (lw_V q396 q398 qs2 q81 q399) ⟨rfl, by decide +kernel⟩ 8 0 rfl rfl xW_o rfl (Nat.le_of_ble_eq_true rfl) (Nat.le_of_ble_eq_true rfl) ⟨Nat.le_of_ble_eq_true rfl, Nat.le_of_ble_eq_true rfl⟩ (Nat.le_of_ble_eq_true rfl) dX0_says_138 (fun r_138 u H locs hp hI hz => ?_)
            have hI : wI E AR sR H locs (xW E ad iv ch rd tp (va_up rf 3 (rf 3 + 1)) (hdI shI aqI) (adn 10) tr (adg 8) dy im ++ (gW E adg ivg grg pag mog sgg tng ++ (tW E adn ivn hrn csn (sK K) ++ (itsW (itF E aqI shI soI szI kmI bmI RI))))) := hI
            have hp : r_138 = (-3) := hp
            have hr_138 := hp
            subst hr_138
            have hC : saysC shI kmI (nI P) (nI k0) = (-3) := by
              clear hret hI
              unfold saysC; rw [if_pos ⟨c_1, c_10⟩, nI_clamp (n := P) (by omega), nI_clamp (n := k0) (by omega)]; rw [hzk9, nI_clamp (n := zk) (by omega)]; exact if_pos (Or.inr ⟨c_h, by rw [e_k]; exact hu⟩)
            have erf : bumpR rf (saysC shI kmI (nI P) (nI k0)) = va_up rf 3 (rf 3 + 1) := by rw [hC]; exact bump_3 _
            have hI := wI_w (ws' := xW E ad iv ch rd tp (bumpR rf (saysC shI kmI (nI P) (nI k0))) (hdI shI aqI) (adn 10) tr (adg 8) dy im ++ (gW E adg (va_up ivg 5 (ivg 5)) grg pag mog sgg tng ++ (tW E adn ivn hrn csn (sK K) ++ (itsW (itF E aqI shI soI szI kmI bmI RI))))) (by rw [erf, va_up_id (f := ivg) (k := 5) (v := ivg 5) rfl]; try rfl) hI
            exact hret (mog, sgg, grg, pag, tng, ivg 5) (-3) _ _ (0 + 3) (0 + (1000 + 10)) _ _ dX0_says_141 hI (by show (-3) = gd (saysC shI kmI (nI P) (nI k0)) (saysV kmI bmI K csn n st (nI P) (nI k0)) (saysC shI kmI (nI P) (nI k0)); rw [hC]; first | rfl | (simp only [nI_clamp (n := P) (by omega), nI_clamp (n := k0) (by omega)]; rfl) | (simp only [gd_0, nI_clamp (n := P) (by omega), nI_clamp (n := k0) (by omega)]; split <;> first | rfl | contradiction)) (Nat.le_of_ble_eq_true rfl) (Nat.le_of_ble_eq_true rfl) rfl
          · skip
            refine r_castT hxR hbR hts hown q580 (man_castY (v := 3) hK.xw (man_isA hK hI (q0 := (14 + (5 + (4 + 0)))) hk1m hk5m (he_r (Nat.le_of_ble_eq_true rfl) (Nat.le_of_ble_eq_true rfl) (he_r (Nat.le_of_ble_eq_true rfl) (Nat.le_of_ble_eq_true rfl) (he_r (Nat.le_of_ble_eq_true rfl) (Nat.le_of_ble_eq_true rfl) (he_l rfl))))) hk1m hk5m (by decide) (by decide) hu) (man_isA hK hI (q0 := (14 + (5 + (4 + 0)))) hk1m hk5m (he_r (Nat.le_of_ble_eq_true rfl) (Nat.le_of_ble_eq_true rfl) (he_r (Nat.le_of_ble_eq_true rfl) (Nat.le_of_ble_eq_true rfl) (he_r (Nat.le_of_ble_eq_true rfl) (Nat.le_of_ble_eq_true rfl) (he_l rfl))))) dX0_says_108 ?_
            have hI : wI E AR sR _ _ (xW E ad iv ch rd tp rf (hdI shI aqI) (adn 10) tr (adg 8) dy im ++ (manW E (aqI P) zk (bmI P) ++ (gW E adg ivg grg pag mog sgg tng ++ (tW E adn ivn hrn csn (sK K) ++ (itsX (itF E aqI shI soI szI kmI bmI RI) P))))) := wI_pick ([xW E ad iv ch rd tp rf (hdI shI aqI) (adn 10) tr (adg 8) dy im, gW E adg ivg grg pag mog sgg tng, tW E adn ivn hrn csn (sK K), manW E (aqI P) zk (bmI P), itsX (itF E aqI shI soI szI kmI bmI RI) P]) [0, 3, 1, 2, 4] 5 rfl (by decide) hI
            have hI := wI_w app4 hI
            refine kVI (n := 1) (As := [.ref (aqI P)]) (rest := []) (fun w => w ++ (itsX (itF E aqI shI soI szI kmI bmI RI) P)) hxR hbR hmlR hts hown hK hA hl.1 (isCtx.suf _) hI (c0_says_2 l E ad iv ch rd tp rf (hdI shI aqI) tr dy im (aqI P) zk (bmI P) adg ivg grg pag mog sgg tng adn ivn hrn csn K n st zb hn hst (by first | omega | with_reducible assumption) (by first | omega | with_reducible assumption) (by first | omega | with_reducible assumption) (by first | omega | with_reducible assumption) hk1m hk5m hzb hzb9) (lw_V q622 q624 qs4 q81 q625) ⟨rfl, by decide +kernel⟩ 8 0 rfl rfl (he_l xW_o) rfl (Nat.le_of_ble_eq_true rfl) (Nat.le_of_ble_eq_true rfl) ⟨Nat.le_of_ble_eq_true rfl, Nat.le_of_ble_eq_true rfl⟩ (Nat.le_of_ble_eq_true rfl) dX0_says_111 (fun r_111 u H locs hp hI hz => ?_)
            obtain ⟨mo2_111, sg2_111, gr2_111, pa2_111, tn2_111, c5_111⟩ := u
            have hI := wI_w app4.symm hI
            have hI : wI E AR sR H locs (xW E ad iv ch rd tp rf (hdI shI aqI) (adn 10) tr (adg 8) dy im ++ (manW E (aqI P) zk (bmI P) ++ (gW E adg (va_up ivg 5 c5_111) gr2_111 pa2_111 mo2_111 sg2_111 tn2_111 ++ (tW E adn ivn hrn csn (sK K) ++ (itsX (itF E aqI shI soI szI kmI bmI RI) P))))) := hI
            have hI : wI E AR sR _ _ (xW E ad iv ch rd tp rf (hdI shI aqI) (adn 10) tr (adg 8) dy im ++ (gW E adg (va_up ivg 5 c5_111) gr2_111 pa2_111 mo2_111 sg2_111 tn2_111 ++ (tW E adn ivn hrn csn (sK K) ++ (manW E (aqI P) zk (bmI P) ++ (itsX (itF E aqI shI soI szI kmI bmI RI) P))))) := wI_pick ([xW E ad iv ch rd tp rf (hdI shI aqI) (adn 10) tr (adg 8) dy im, manW E (aqI P) zk (bmI P), gW E adg (va_up ivg 5 c5_111) gr2_111 pa2_111 mo2_111 sg2_111 tn2_111, tW E adn ivn hrn csn (sK K), itsX (itF E aqI shI soI szI kmI bmI RI) P]) [0, 2, 3, 1, 4] 5 rfl (by decide) hI
            have hp : r_111 = nI (sentV K csn n st zk zb (2 ^ n - 1) 0) := hp
            have hr_111 := hp
            subst hr_111
            have hI : wI E AR sR _ _ (manW E (aqI P) zk (bmI P) ++ (itsX (itF E aqI shI soI szI kmI bmI RI) P ++ (xW E ad iv ch rd tp rf (hdI shI aqI) (adn 10) tr (adg 8) dy im ++ (gW E adg (va_up ivg 5 c5_111) gr2_111 pa2_111 mo2_111 sg2_111 tn2_111 ++ (tW E adn ivn hrn csn (sK K)))))) := wI_pick ([xW E ad iv ch rd tp rf (hdI shI aqI) (adn 10) tr (adg 8) dy im, gW E adg (va_up ivg 5 c5_111) gr2_111 pa2_111 mo2_111 sg2_111 tn2_111, tW E adn ivn hrn csn (sK K), manW E (aqI P) zk (bmI P), itsX (itF E aqI shI soI szI kmI bmI RI) P]) [3, 4, 0, 1, 2] 5 rfl (by decide) hI
            have hI := its_in (f := itF E aqI shI soI szI kmI bmI RI) (g := itF E aqI shI soI szI kmI bmI RI) hP (fun _ _ => rfl) (itF_man c_h hzk9 (by omega)) hI
            have hI : wI E AR sR _ _ (itsW (itF E aqI shI soI szI kmI bmI RI) ++ (xW E ad iv ch rd tp rf (hdI shI aqI) (adn 10) tr (adg 8) dy im ++ (gW E adg (va_up ivg 5 c5_111) gr2_111 pa2_111 mo2_111 sg2_111 tn2_111 ++ (tW E adn ivn hrn csn (sK K))))) := hI
            have hI : wI E AR sR _ _ (xW E ad iv ch rd tp rf (hdI shI aqI) (adn 10) tr (adg 8) dy im ++ (gW E adg (va_up ivg 5 c5_111) gr2_111 pa2_111 mo2_111 sg2_111 tn2_111 ++ (tW E adn ivn hrn csn (sK K) ++ (itsW (itF E aqI shI soI szI kmI bmI RI))))) := wI_pick ([itsW (itF E aqI shI soI szI kmI bmI RI), xW E ad iv ch rd tp rf (hdI shI aqI) (adn 10) tr (adg 8) dy im, gW E adg (va_up ivg 5 c5_111) gr2_111 pa2_111 mo2_111 sg2_111 tn2_111, tW E adn ivn hrn csn (sK K)]) [1, 2, 3, 0] 4 rfl (by decide) hI
            have hC : saysC shI kmI (nI P) (nI k0) = 0 := by
              clear hret hI
              unfold saysC; rw [if_pos ⟨c_1, c_10⟩, nI_clamp (n := P) (by omega), nI_clamp (n := k0) (by omega)]; rw [hzk9, nI_clamp (n := zk) (by omega)]; rw [if_neg (fun z => z.elim (fun q => absurd (c_h.symm.trans q) (by decide)) (fun q => absurd q.2 (by rw [e_k, hu]; decide)))]; exact if_neg (by rw [c_h]; decide)
            have erf : bumpR rf (saysC shI kmI (nI P) (nI k0)) = rf := by rw [hC]; exact bump_0 _
            have hI := wI_w (ws' := xW E ad iv ch rd tp (bumpR rf (saysC shI kmI (nI P) (nI k0))) (hdI shI aqI) (adn 10) tr (adg 8) dy im ++ (gW E adg (va_up ivg 5 c5_111) gr2_111 pa2_111 mo2_111 sg2_111 tn2_111 ++ (tW E adn ivn hrn csn (sK K) ++ (itsW (itF E aqI shI soI szI kmI bmI RI))))) (by rw [erf]; try rfl) hI
            exact hret (mo2_111, sg2_111, gr2_111, pa2_111, tn2_111, c5_111) (nI (sentV K csn n st zk zb (2 ^ n - 1) 0)) _ _ 0 0 _ _ dX0_says_114 hI (by show (nI (sentV K csn n st zk zb (2 ^ n - 1) 0)) = gd (saysC shI kmI (nI P) (nI k0)) (saysV kmI bmI K csn n st (nI P) (nI k0)) (saysC shI kmI (nI P) (nI k0)); rw [hC, gd_0]; unfold saysV; rw [if_neg (by rw [e_k]; decide), nI_clamp (n := P) (by omega), hzk9, nI_clamp (n := zk) (by omega), hzb9, nI_clamp (n := zb) (by omega)]) (Nat.le_of_ble_eq_true rfl) (Nat.le_of_ble_eq_true rfl) rfl
        by_cases c_45_4 : nI k0 = 4
        · skip
          have e_k : k0 = 4 := (n_eq (a := k0) (b := 4) (by omega) (by omega)).mp c_45_4
          refine lv_tableIn (off := 70) (tgt := 115) hxR hbR dX0_says_45 (by rw [c_45_4]; decide) (by rw [c_45_4]; decide) (by rw [c_45_4]; rfl) (by decide) ?_
          refine lv_aload_n hxR hbR dX0_says_115 rfl (lv_at hl 1 rfl) ?_
          refine lv_aload_n hxR hbR dX0_says_116 rfl (lv_at hl 0 rfl) ?_
          cases hu : isUndV zk 4
          · skip
            refine r_castX hxR hbR hts hown q588 hK.xw (man_castN (v := 4) hK.xw hk1m hk5m (by decide) (by decide) hu) (man_isA hK hI (q0 := (14 + (5 + (4 + 0)))) hk1m hk5m (he_r (Nat.le_of_ble_eq_true rfl) (Nat.le_of_ble_eq_true rfl) (he_r (Nat.le_of_ble_eq_true rfl) (Nat.le_of_ble_eq_true rfl) (he_r (Nat.le_of_ble_eq_true rfl) (Nat.le_of_ble_eq_true rfl) (he_l rfl))))) (pk_man hk1m hk5m).1 (pk_man (kd := 4) (by decide) (by decide)).1 (pk_man hk1m hk5m).2 (pk_man (kd := 4) (by decide) (by decide)).2 dX0_says_117 (fun tx ht1 ht2 => ?_)
            refine r_vm_cce hxR hlt hmlR hts hK hI hl.1 hlk ht1 ht2 (by decide) (by omega) (Nat.le_of_ble_eq_true rfl) (by omega) (fun H q9 ce_117 hI hq1 hq2 hq3 => ?_)
            refine r_catch 4 _ hown hts hK.xw htab rfl (List.forall_mem_cons.mpr ⟨Or.inl (by decide), (List.forall_mem_cons.mpr ⟨Or.inl (by decide), (List.forall_mem_cons.mpr ⟨Or.inl (by decide), (List.forall_mem_cons.mpr ⟨Or.inl (by decide), (fun z hz => absurd hz List.not_mem_nil)⟩)⟩)⟩)⟩) (by decide) (by decide) q608 q620 hq1 hq2 hq3 ?_
            refine W.eq (g2 := F0 mR 133 ls [.ref q9]) rfl ?_
            have hI : wI E AR sR _ _ (manW E (aqI P) zk (bmI P) ++ (itsX (itF E aqI shI soI szI kmI bmI RI) P ++ (xW E ad iv ch rd tp rf (hdI shI aqI) (adn 10) tr (adg 8) dy im ++ (gW E adg ivg grg pag mog sgg tng ++ (tW E adn ivn hrn csn (sK K)))))) := wI_pick ([xW E ad iv ch rd tp rf (hdI shI aqI) (adn 10) tr (adg 8) dy im, gW E adg ivg grg pag mog sgg tng, tW E adn ivn hrn csn (sK K), manW E (aqI P) zk (bmI P), itsX (itF E aqI shI soI szI kmI bmI RI) P]) [3, 4, 0, 1, 2] 5 rfl (by decide) hI
            have hI := its_in (f := itF E aqI shI soI szI kmI bmI RI) (g := itF E aqI shI soI szI kmI bmI RI) hP (fun _ _ => rfl) (itF_man c_h hzk9 (by omega)) hI
            have hI : wI E AR sR _ _ (itsW (itF E aqI shI soI szI kmI bmI RI) ++ (xW E ad iv ch rd tp rf (hdI shI aqI) (adn 10) tr (adg 8) dy im ++ (gW E adg ivg grg pag mog sgg tng ++ (tW E adn ivn hrn csn (sK K))))) := hI
            have hI : wI E AR sR _ _ (xW E ad iv ch rd tp rf (hdI shI aqI) (adn 10) tr (adg 8) dy im ++ (gW E adg ivg grg pag mog sgg tng ++ (tW E adn ivn hrn csn (sK K) ++ (itsW (itF E aqI shI soI szI kmI bmI RI))))) := wI_pick ([itsW (itF E aqI shI soI szI kmI bmI RI), xW E ad iv ch rd tp rf (hdI shI aqI) (adn 10) tr (adg 8) dy im, gW E adg ivg grg pag mog sgg tng, tW E adn ivn hrn csn (sK K)]) [1, 2, 3, 0] 4 rfl (by decide) hI
            refine lv_astore (lv' := [(4, .ref q9), (3, .ref (aqI P)), (0, .ref (ad 11)), (1, .int (nI P)), (2, .int (nI k0))]) hxR hbR dX0_says_133 hl (by decide) rfl (fun ls hl => ?_)
            refine lv_aload_n hxR hbR dX0_says_135 rfl (lv_at hl 2 rfl) ?_
            refine lv_bipush (v := (-3)) hxR hbR dX0_says_136 (by decide) ?_
            refine kVI (n := 1) (As := [.int (-3)]) (rest := []) (fun w => w ++ (gW E adg ivg grg pag mog sgg tng ++ (tW E adn ivn hrn csn (sK K) ++ (itsW (itF E aqI shI soI szI kmI bmI RI))))) hxR hbR hmlR hts hown hK hA hl.1 (isCtx.suf _) hI (c0_no l E ad iv ch rd tp rf (hdI shI aqI) (adn 10) tr (adg 8) dy im (-3) 3 (by decide) (by decide)) (lw_V q396 q398 qs2 q81 q399) ⟨rfl, by decide +kernel⟩ 8 0 rfl rfl xW_o rfl (Nat.le_of_ble_eq_true rfl) (Nat.le_of_ble_eq_true rfl) ⟨Nat.le_of_ble_eq_true rfl, Nat.le_of_ble_eq_true rfl⟩ (Nat.le_of_ble_eq_true rfl) dX0_says_138 (fun r_138 u H locs hp hI hz => ?_)
            have hI : wI E AR sR H locs (xW E ad iv ch rd tp (va_up rf 3 (rf 3 + 1)) (hdI shI aqI) (adn 10) tr (adg 8) dy im ++ (gW E adg ivg grg pag mog sgg tng ++ (tW E adn ivn hrn csn (sK K) ++ (itsW (itF E aqI shI soI szI kmI bmI RI))))) := hI
            have hp : r_138 = (-3) := hp
            have hr_138 := hp
            subst hr_138
            have hC : saysC shI kmI (nI P) (nI k0) = (-3) := by
              clear hret hI
              unfold saysC; rw [if_pos ⟨c_1, c_10⟩, nI_clamp (n := P) (by omega), nI_clamp (n := k0) (by omega)]; rw [hzk9, nI_clamp (n := zk) (by omega)]; exact if_pos (Or.inr ⟨c_h, by rw [e_k]; exact hu⟩)
            have erf : bumpR rf (saysC shI kmI (nI P) (nI k0)) = va_up rf 3 (rf 3 + 1) := by rw [hC]; exact bump_3 _
            have hI := wI_w (ws' := xW E ad iv ch rd tp (bumpR rf (saysC shI kmI (nI P) (nI k0))) (hdI shI aqI) (adn 10) tr (adg 8) dy im ++ (gW E adg (va_up ivg 5 (ivg 5)) grg pag mog sgg tng ++ (tW E adn ivn hrn csn (sK K) ++ (itsW (itF E aqI shI soI szI kmI bmI RI))))) (by rw [erf, va_up_id (f := ivg) (k := 5) (v := ivg 5) rfl]; try rfl) hI
            exact hret (mog, sgg, grg, pag, tng, ivg 5) (-3) _ _ (0 + 3) (0 + (1000 + 10)) _ _ dX0_says_141 hI (by show (-3) = gd (saysC shI kmI (nI P) (nI k0)) (saysV kmI bmI K csn n st (nI P) (nI k0)) (saysC shI kmI (nI P) (nI k0)); rw [hC]; first | rfl | (simp only [nI_clamp (n := P) (by omega), nI_clamp (n := k0) (by omega)]; rfl) | (simp only [gd_0, nI_clamp (n := P) (by omega), nI_clamp (n := k0) (by omega)]; split <;> first | rfl | contradiction)) (Nat.le_of_ble_eq_true rfl) (Nat.le_of_ble_eq_true rfl) rfl
          · skip
            refine r_castT hxR hbR hts hown q588 (man_castY (v := 4) hK.xw (man_isA hK hI (q0 := (14 + (5 + (4 + 0)))) hk1m hk5m (he_r (Nat.le_of_ble_eq_true rfl) (Nat.le_of_ble_eq_true rfl) (he_r (Nat.le_of_ble_eq_true rfl) (Nat.le_of_ble_eq_true rfl) (he_r (Nat.le_of_ble_eq_true rfl) (Nat.le_of_ble_eq_true rfl) (he_l rfl))))) hk1m hk5m (by decide) (by decide) hu) (man_isA hK hI (q0 := (14 + (5 + (4 + 0)))) hk1m hk5m (he_r (Nat.le_of_ble_eq_true rfl) (Nat.le_of_ble_eq_true rfl) (he_r (Nat.le_of_ble_eq_true rfl) (Nat.le_of_ble_eq_true rfl) (he_r (Nat.le_of_ble_eq_true rfl) (Nat.le_of_ble_eq_true rfl) (he_l rfl))))) dX0_says_117 ?_
            have hI : wI E AR sR _ _ (xW E ad iv ch rd tp rf (hdI shI aqI) (adn 10) tr (adg 8) dy im ++ (manW E (aqI P) zk (bmI P) ++ (gW E adg ivg grg pag mog sgg tng ++ (tW E adn ivn hrn csn (sK K) ++ (itsX (itF E aqI shI soI szI kmI bmI RI) P))))) := wI_pick ([xW E ad iv ch rd tp rf (hdI shI aqI) (adn 10) tr (adg 8) dy im, gW E adg ivg grg pag mog sgg tng, tW E adn ivn hrn csn (sK K), manW E (aqI P) zk (bmI P), itsX (itF E aqI shI soI szI kmI bmI RI) P]) [0, 3, 1, 2, 4] 5 rfl (by decide) hI
            have hI := wI_w app4 hI
            refine kVI (n := 1) (As := [.ref (aqI P)]) (rest := []) (fun w => w ++ (itsX (itF E aqI shI soI szI kmI bmI RI) P)) hxR hbR hmlR hts hown hK hA hl.1 (isCtx.suf _) hI (c0_says_2 l E ad iv ch rd tp rf (hdI shI aqI) tr dy im (aqI P) zk (bmI P) adg ivg grg pag mog sgg tng adn ivn hrn csn K n st zb hn hst (by first | omega | with_reducible assumption) (by first | omega | with_reducible assumption) (by first | omega | with_reducible assumption) (by first | omega | with_reducible assumption) hk1m hk5m hzb hzb9) (lw_V q622 q624 qs4 q81 q625) ⟨rfl, by decide +kernel⟩ 8 0 rfl rfl (he_l xW_o) rfl (Nat.le_of_ble_eq_true rfl) (Nat.le_of_ble_eq_true rfl) ⟨Nat.le_of_ble_eq_true rfl, Nat.le_of_ble_eq_true rfl⟩ (Nat.le_of_ble_eq_true rfl) dX0_says_120 (fun r_120 u H locs hp hI hz => ?_)
            obtain ⟨mo2_120, sg2_120, gr2_120, pa2_120, tn2_120, c5_120⟩ := u
            have hI := wI_w app4.symm hI
            have hI : wI E AR sR H locs (xW E ad iv ch rd tp rf (hdI shI aqI) (adn 10) tr (adg 8) dy im ++ (manW E (aqI P) zk (bmI P) ++ (gW E adg (va_up ivg 5 c5_120) gr2_120 pa2_120 mo2_120 sg2_120 tn2_120 ++ (tW E adn ivn hrn csn (sK K) ++ (itsX (itF E aqI shI soI szI kmI bmI RI) P))))) := hI
            have hI : wI E AR sR _ _ (xW E ad iv ch rd tp rf (hdI shI aqI) (adn 10) tr (adg 8) dy im ++ (gW E adg (va_up ivg 5 c5_120) gr2_120 pa2_120 mo2_120 sg2_120 tn2_120 ++ (tW E adn ivn hrn csn (sK K) ++ (manW E (aqI P) zk (bmI P) ++ (itsX (itF E aqI shI soI szI kmI bmI RI) P))))) := wI_pick ([xW E ad iv ch rd tp rf (hdI shI aqI) (adn 10) tr (adg 8) dy im, manW E (aqI P) zk (bmI P), gW E adg (va_up ivg 5 c5_120) gr2_120 pa2_120 mo2_120 sg2_120 tn2_120, tW E adn ivn hrn csn (sK K), itsX (itF E aqI shI soI szI kmI bmI RI) P]) [0, 2, 3, 1, 4] 5 rfl (by decide) hI
            have hp : r_120 = nI (sentV K csn n st zk zb (2 ^ n - 1) 0) := hp
            have hr_120 := hp
            subst hr_120
            have hI : wI E AR sR _ _ (manW E (aqI P) zk (bmI P) ++ (itsX (itF E aqI shI soI szI kmI bmI RI) P ++ (xW E ad iv ch rd tp rf (hdI shI aqI) (adn 10) tr (adg 8) dy im ++ (gW E adg (va_up ivg 5 c5_120) gr2_120 pa2_120 mo2_120 sg2_120 tn2_120 ++ (tW E adn ivn hrn csn (sK K)))))) := wI_pick ([xW E ad iv ch rd tp rf (hdI shI aqI) (adn 10) tr (adg 8) dy im, gW E adg (va_up ivg 5 c5_120) gr2_120 pa2_120 mo2_120 sg2_120 tn2_120, tW E adn ivn hrn csn (sK K), manW E (aqI P) zk (bmI P), itsX (itF E aqI shI soI szI kmI bmI RI) P]) [3, 4, 0, 1, 2] 5 rfl (by decide) hI
            have hI := its_in (f := itF E aqI shI soI szI kmI bmI RI) (g := itF E aqI shI soI szI kmI bmI RI) hP (fun _ _ => rfl) (itF_man c_h hzk9 (by omega)) hI
            have hI : wI E AR sR _ _ (itsW (itF E aqI shI soI szI kmI bmI RI) ++ (xW E ad iv ch rd tp rf (hdI shI aqI) (adn 10) tr (adg 8) dy im ++ (gW E adg (va_up ivg 5 c5_120) gr2_120 pa2_120 mo2_120 sg2_120 tn2_120 ++ (tW E adn ivn hrn csn (sK K))))) := hI
            have hI : wI E AR sR _ _ (xW E ad iv ch rd tp rf (hdI shI aqI) (adn 10) tr (adg 8) dy im ++ (gW E adg (va_up ivg 5 c5_120) gr2_120 pa2_120 mo2_120 sg2_120 tn2_120 ++ (tW E adn ivn hrn csn (sK K) ++ (itsW (itF E aqI shI soI szI kmI bmI RI))))) := wI_pick ([itsW (itF E aqI shI soI szI kmI bmI RI), xW E ad iv ch rd tp rf (hdI shI aqI) (adn 10) tr (adg 8) dy im, gW E adg (va_up ivg 5 c5_120) gr2_120 pa2_120 mo2_120 sg2_120 tn2_120, tW E adn ivn hrn csn (sK K)]) [1, 2, 3, 0] 4 rfl (by decide) hI
            have hC : saysC shI kmI (nI P) (nI k0) = 0 := by
              clear hret hI
              unfold saysC; rw [if_pos ⟨c_1, c_10⟩, nI_clamp (n := P) (by omega), nI_clamp (n := k0) (by omega)]; rw [hzk9, nI_clamp (n := zk) (by omega)]; rw [if_neg (fun z => z.elim (fun q => absurd (c_h.symm.trans q) (by decide)) (fun q => absurd q.2 (by rw [e_k, hu]; decide)))]; exact if_neg (by rw [c_h]; decide)
            have erf : bumpR rf (saysC shI kmI (nI P) (nI k0)) = rf := by rw [hC]; exact bump_0 _
            have hI := wI_w (ws' := xW E ad iv ch rd tp (bumpR rf (saysC shI kmI (nI P) (nI k0))) (hdI shI aqI) (adn 10) tr (adg 8) dy im ++ (gW E adg (va_up ivg 5 c5_120) gr2_120 pa2_120 mo2_120 sg2_120 tn2_120 ++ (tW E adn ivn hrn csn (sK K) ++ (itsW (itF E aqI shI soI szI kmI bmI RI))))) (by rw [erf]; try rfl) hI
            exact hret (mo2_120, sg2_120, gr2_120, pa2_120, tn2_120, c5_120) (nI (sentV K csn n st zk zb (2 ^ n - 1) 0)) _ _ 0 0 _ _ dX0_says_123 hI (by show (nI (sentV K csn n st zk zb (2 ^ n - 1) 0)) = gd (saysC shI kmI (nI P) (nI k0)) (saysV kmI bmI K csn n st (nI P) (nI k0)) (saysC shI kmI (nI P) (nI k0)); rw [hC, gd_0]; unfold saysV; rw [if_neg (by rw [e_k]; decide), nI_clamp (n := P) (by omega), hzk9, nI_clamp (n := zk) (by omega), hzb9, nI_clamp (n := zb) (by omega)]) (Nat.le_of_ble_eq_true rfl) (Nat.le_of_ble_eq_true rfl) rfl
        have c_45_d : (nI k0).toInt < 0 ∨ 4 < (nI k0).toInt := by
          have z0 : ¬ (nI k0).toInt = 0 := fun q => c_45_0 (Int32.toInt_inj.mp q)
          have z1 : ¬ (nI k0).toInt = 1 := fun q => c_45_1 (Int32.toInt_inj.mp q)
          have z2 : ¬ (nI k0).toInt = 2 := fun q => c_45_2 (Int32.toInt_inj.mp q)
          have z3 : ¬ (nI k0).toInt = 3 := fun q => c_45_3 (Int32.toInt_inj.mp q)
          have z4 : ¬ (nI k0).toInt = 4 := fun q => c_45_4 (Int32.toInt_inj.mp q)
          omega
        have e_k : k0 = 5 := by rw [nI_toInt (by omega)] at c_45_d; omega
        refine lv_tableOut (tgt := 124) hxR hbR dX0_says_45 c_45_d (by decide) ?_
        refine lv_aload_n hxR hbR dX0_says_124 rfl (lv_at hl 1 rfl) ?_
        refine lv_aload_n hxR hbR dX0_says_125 rfl (lv_at hl 0 rfl) ?_
        cases hu : isUndV zk 5
        · skip
          refine r_castX hxR hbR hts hown q596 hK.xw (man_castN (v := 5) hK.xw hk1m hk5m (by decide) (by decide) hu) (man_isA hK hI (q0 := (14 + (5 + (4 + 0)))) hk1m hk5m (he_r (Nat.le_of_ble_eq_true rfl) (Nat.le_of_ble_eq_true rfl) (he_r (Nat.le_of_ble_eq_true rfl) (Nat.le_of_ble_eq_true rfl) (he_r (Nat.le_of_ble_eq_true rfl) (Nat.le_of_ble_eq_true rfl) (he_l rfl))))) (pk_man hk1m hk5m).1 (pk_man (kd := 5) (by decide) (by decide)).1 (pk_man hk1m hk5m).2 (pk_man (kd := 5) (by decide) (by decide)).2 dX0_says_126 (fun tx ht1 ht2 => ?_)
          refine r_vm_cce hxR hlt hmlR hts hK hI hl.1 hlk ht1 ht2 (by decide) (by omega) (Nat.le_of_ble_eq_true rfl) (by omega) (fun H q9 ce_126 hI hq1 hq2 hq3 => ?_)
          refine r_catch 5 _ hown hts hK.xw htab rfl (List.forall_mem_cons.mpr ⟨Or.inl (by decide), (List.forall_mem_cons.mpr ⟨Or.inl (by decide), (List.forall_mem_cons.mpr ⟨Or.inl (by decide), (List.forall_mem_cons.mpr ⟨Or.inl (by decide), (List.forall_mem_cons.mpr ⟨Or.inl (by decide), (fun z hz => absurd hz List.not_mem_nil)⟩)⟩)⟩)⟩)⟩) (by decide) (by decide) q608 q620 hq1 hq2 hq3 ?_
          refine W.eq (g2 := F0 mR 133 ls [.ref q9]) rfl ?_
          have hI : wI E AR sR _ _ (manW E (aqI P) zk (bmI P) ++ (itsX (itF E aqI shI soI szI kmI bmI RI) P ++ (xW E ad iv ch rd tp rf (hdI shI aqI) (adn 10) tr (adg 8) dy im ++ (gW E adg ivg grg pag mog sgg tng ++ (tW E adn ivn hrn csn (sK K)))))) := wI_pick ([xW E ad iv ch rd tp rf (hdI shI aqI) (adn 10) tr (adg 8) dy im, gW E adg ivg grg pag mog sgg tng, tW E adn ivn hrn csn (sK K), manW E (aqI P) zk (bmI P), itsX (itF E aqI shI soI szI kmI bmI RI) P]) [3, 4, 0, 1, 2] 5 rfl (by decide) hI
          have hI := its_in (f := itF E aqI shI soI szI kmI bmI RI) (g := itF E aqI shI soI szI kmI bmI RI) hP (fun _ _ => rfl) (itF_man c_h hzk9 (by omega)) hI
          have hI : wI E AR sR _ _ (itsW (itF E aqI shI soI szI kmI bmI RI) ++ (xW E ad iv ch rd tp rf (hdI shI aqI) (adn 10) tr (adg 8) dy im ++ (gW E adg ivg grg pag mog sgg tng ++ (tW E adn ivn hrn csn (sK K))))) := hI
          have hI : wI E AR sR _ _ (xW E ad iv ch rd tp rf (hdI shI aqI) (adn 10) tr (adg 8) dy im ++ (gW E adg ivg grg pag mog sgg tng ++ (tW E adn ivn hrn csn (sK K) ++ (itsW (itF E aqI shI soI szI kmI bmI RI))))) := wI_pick ([itsW (itF E aqI shI soI szI kmI bmI RI), xW E ad iv ch rd tp rf (hdI shI aqI) (adn 10) tr (adg 8) dy im, gW E adg ivg grg pag mog sgg tng, tW E adn ivn hrn csn (sK K)]) [1, 2, 3, 0] 4 rfl (by decide) hI
          refine lv_astore (lv' := [(4, .ref q9), (3, .ref (aqI P)), (0, .ref (ad 11)), (1, .int (nI P)), (2, .int (nI k0))]) hxR hbR dX0_says_133 hl (by decide) rfl (fun ls hl => ?_)
          refine lv_aload_n hxR hbR dX0_says_135 rfl (lv_at hl 2 rfl) ?_
          refine lv_bipush (v := (-3)) hxR hbR dX0_says_136 (by decide) ?_
          refine kVI (n := 1) (As := [.int (-3)]) (rest := []) (fun w => w ++ (gW E adg ivg grg pag mog sgg tng ++ (tW E adn ivn hrn csn (sK K) ++ (itsW (itF E aqI shI soI szI kmI bmI RI))))) hxR hbR hmlR hts hown hK hA hl.1 (isCtx.suf _) hI (c0_no l E ad iv ch rd tp rf (hdI shI aqI) (adn 10) tr (adg 8) dy im (-3) 3 (by decide) (by decide)) (lw_V q396 q398 qs2 q81 q399) ⟨rfl, by decide +kernel⟩ 8 0 rfl rfl xW_o rfl (Nat.le_of_ble_eq_true rfl) (Nat.le_of_ble_eq_true rfl) ⟨Nat.le_of_ble_eq_true rfl, Nat.le_of_ble_eq_true rfl⟩ (Nat.le_of_ble_eq_true rfl) dX0_says_138 (fun r_138 u H locs hp hI hz => ?_)
          have hI : wI E AR sR H locs (xW E ad iv ch rd tp (va_up rf 3 (rf 3 + 1)) (hdI shI aqI) (adn 10) tr (adg 8) dy im ++ (gW E adg ivg grg pag mog sgg tng ++ (tW E adn ivn hrn csn (sK K) ++ (itsW (itF E aqI shI soI szI kmI bmI RI))))) := hI
          have hp : r_138 = (-3) := hp
          have hr_138 := hp
          subst hr_138
          have hC : saysC shI kmI (nI P) (nI k0) = (-3) := by
            clear hret hI
            unfold saysC; rw [if_pos ⟨c_1, c_10⟩, nI_clamp (n := P) (by omega), nI_clamp (n := k0) (by omega)]; rw [hzk9, nI_clamp (n := zk) (by omega)]; exact if_pos (Or.inr ⟨c_h, by rw [e_k]; exact hu⟩)
          have erf : bumpR rf (saysC shI kmI (nI P) (nI k0)) = va_up rf 3 (rf 3 + 1) := by rw [hC]; exact bump_3 _
          have hI := wI_w (ws' := xW E ad iv ch rd tp (bumpR rf (saysC shI kmI (nI P) (nI k0))) (hdI shI aqI) (adn 10) tr (adg 8) dy im ++ (gW E adg (va_up ivg 5 (ivg 5)) grg pag mog sgg tng ++ (tW E adn ivn hrn csn (sK K) ++ (itsW (itF E aqI shI soI szI kmI bmI RI))))) (by rw [erf, va_up_id (f := ivg) (k := 5) (v := ivg 5) rfl]; try rfl) hI
          exact hret (mog, sgg, grg, pag, tng, ivg 5) (-3) _ _ (0 + 3) (0 + (1000 + 10)) _ _ dX0_says_141 hI (by show (-3) = gd (saysC shI kmI (nI P) (nI k0)) (saysV kmI bmI K csn n st (nI P) (nI k0)) (saysC shI kmI (nI P) (nI k0)); rw [hC]; first | rfl | (simp only [nI_clamp (n := P) (by omega), nI_clamp (n := k0) (by omega)]; rfl) | (simp only [gd_0, nI_clamp (n := P) (by omega), nI_clamp (n := k0) (by omega)]; split <;> first | rfl | contradiction)) (Nat.le_of_ble_eq_true rfl) (Nat.le_of_ble_eq_true rfl) rfl
        · skip
          refine r_castT hxR hbR hts hown q596 (man_castY (v := 5) hK.xw (man_isA hK hI (q0 := (14 + (5 + (4 + 0)))) hk1m hk5m (he_r (Nat.le_of_ble_eq_true rfl) (Nat.le_of_ble_eq_true rfl) (he_r (Nat.le_of_ble_eq_true rfl) (Nat.le_of_ble_eq_true rfl) (he_r (Nat.le_of_ble_eq_true rfl) (Nat.le_of_ble_eq_true rfl) (he_l rfl))))) hk1m hk5m (by decide) (by decide) hu) (man_isA hK hI (q0 := (14 + (5 + (4 + 0)))) hk1m hk5m (he_r (Nat.le_of_ble_eq_true rfl) (Nat.le_of_ble_eq_true rfl) (he_r (Nat.le_of_ble_eq_true rfl) (Nat.le_of_ble_eq_true rfl) (he_r (Nat.le_of_ble_eq_true rfl) (Nat.le_of_ble_eq_true rfl) (he_l rfl))))) dX0_says_126 ?_
          have hI : wI E AR sR _ _ (xW E ad iv ch rd tp rf (hdI shI aqI) (adn 10) tr (adg 8) dy im ++ (manW E (aqI P) zk (bmI P) ++ (gW E adg ivg grg pag mog sgg tng ++ (tW E adn ivn hrn csn (sK K) ++ (itsX (itF E aqI shI soI szI kmI bmI RI) P))))) := wI_pick ([xW E ad iv ch rd tp rf (hdI shI aqI) (adn 10) tr (adg 8) dy im, gW E adg ivg grg pag mog sgg tng, tW E adn ivn hrn csn (sK K), manW E (aqI P) zk (bmI P), itsX (itF E aqI shI soI szI kmI bmI RI) P]) [0, 3, 1, 2, 4] 5 rfl (by decide) hI
          have hI := wI_w app4 hI
          refine kVI (n := 1) (As := [.ref (aqI P)]) (rest := []) (fun w => w ++ (itsX (itF E aqI shI soI szI kmI bmI RI) P)) hxR hbR hmlR hts hown hK hA hl.1 (isCtx.suf _) hI (c0_says_2 l E ad iv ch rd tp rf (hdI shI aqI) tr dy im (aqI P) zk (bmI P) adg ivg grg pag mog sgg tng adn ivn hrn csn K n st zb hn hst (by first | omega | with_reducible assumption) (by first | omega | with_reducible assumption) (by first | omega | with_reducible assumption) (by first | omega | with_reducible assumption) hk1m hk5m hzb hzb9) (lw_V q622 q624 qs4 q81 q625) ⟨rfl, by decide +kernel⟩ 8 0 rfl rfl (he_l xW_o) rfl (Nat.le_of_ble_eq_true rfl) (Nat.le_of_ble_eq_true rfl) ⟨Nat.le_of_ble_eq_true rfl, Nat.le_of_ble_eq_true rfl⟩ (Nat.le_of_ble_eq_true rfl) dX0_says_129 (fun r_129 u H locs hp hI hz => ?_)
          obtain ⟨mo2_129, sg2_129, gr2_129, pa2_129, tn2_129, c5_129⟩ := u
          have hI := wI_w app4.symm hI
          have hI : wI E AR sR H locs (xW E ad iv ch rd tp rf (hdI shI aqI) (adn 10) tr (adg 8) dy im ++ (manW E (aqI P) zk (bmI P) ++ (gW E adg (va_up ivg 5 c5_129) gr2_129 pa2_129 mo2_129 sg2_129 tn2_129 ++ (tW E adn ivn hrn csn (sK K) ++ (itsX (itF E aqI shI soI szI kmI bmI RI) P))))) := hI
          have hI : wI E AR sR _ _ (xW E ad iv ch rd tp rf (hdI shI aqI) (adn 10) tr (adg 8) dy im ++ (gW E adg (va_up ivg 5 c5_129) gr2_129 pa2_129 mo2_129 sg2_129 tn2_129 ++ (tW E adn ivn hrn csn (sK K) ++ (manW E (aqI P) zk (bmI P) ++ (itsX (itF E aqI shI soI szI kmI bmI RI) P))))) := wI_pick ([xW E ad iv ch rd tp rf (hdI shI aqI) (adn 10) tr (adg 8) dy im, manW E (aqI P) zk (bmI P), gW E adg (va_up ivg 5 c5_129) gr2_129 pa2_129 mo2_129 sg2_129 tn2_129, tW E adn ivn hrn csn (sK K), itsX (itF E aqI shI soI szI kmI bmI RI) P]) [0, 2, 3, 1, 4] 5 rfl (by decide) hI
          have hp : r_129 = nI (sentV K csn n st zk zb (2 ^ n - 1) 0) := hp
          have hr_129 := hp
          subst hr_129
          have hI : wI E AR sR _ _ (manW E (aqI P) zk (bmI P) ++ (itsX (itF E aqI shI soI szI kmI bmI RI) P ++ (xW E ad iv ch rd tp rf (hdI shI aqI) (adn 10) tr (adg 8) dy im ++ (gW E adg (va_up ivg 5 c5_129) gr2_129 pa2_129 mo2_129 sg2_129 tn2_129 ++ (tW E adn ivn hrn csn (sK K)))))) := wI_pick ([xW E ad iv ch rd tp rf (hdI shI aqI) (adn 10) tr (adg 8) dy im, gW E adg (va_up ivg 5 c5_129) gr2_129 pa2_129 mo2_129 sg2_129 tn2_129, tW E adn ivn hrn csn (sK K), manW E (aqI P) zk (bmI P), itsX (itF E aqI shI soI szI kmI bmI RI) P]) [3, 4, 0, 1, 2] 5 rfl (by decide) hI
          have hI := its_in (f := itF E aqI shI soI szI kmI bmI RI) (g := itF E aqI shI soI szI kmI bmI RI) hP (fun _ _ => rfl) (itF_man c_h hzk9 (by omega)) hI
          have hI : wI E AR sR _ _ (itsW (itF E aqI shI soI szI kmI bmI RI) ++ (xW E ad iv ch rd tp rf (hdI shI aqI) (adn 10) tr (adg 8) dy im ++ (gW E adg (va_up ivg 5 c5_129) gr2_129 pa2_129 mo2_129 sg2_129 tn2_129 ++ (tW E adn ivn hrn csn (sK K))))) := hI
          have hI : wI E AR sR _ _ (xW E ad iv ch rd tp rf (hdI shI aqI) (adn 10) tr (adg 8) dy im ++ (gW E adg (va_up ivg 5 c5_129) gr2_129 pa2_129 mo2_129 sg2_129 tn2_129 ++ (tW E adn ivn hrn csn (sK K) ++ (itsW (itF E aqI shI soI szI kmI bmI RI))))) := wI_pick ([itsW (itF E aqI shI soI szI kmI bmI RI), xW E ad iv ch rd tp rf (hdI shI aqI) (adn 10) tr (adg 8) dy im, gW E adg (va_up ivg 5 c5_129) gr2_129 pa2_129 mo2_129 sg2_129 tn2_129, tW E adn ivn hrn csn (sK K)]) [1, 2, 3, 0] 4 rfl (by decide) hI
          have hC : saysC shI kmI (nI P) (nI k0) = 0 := by
            clear hret hI
            unfold saysC; rw [if_pos ⟨c_1, c_10⟩, nI_clamp (n := P) (by omega), nI_clamp (n := k0) (by omega)]; rw [hzk9, nI_clamp (n := zk) (by omega)]; rw [if_neg (fun z => z.elim (fun q => absurd (c_h.symm.trans q) (by decide)) (fun q => absurd q.2 (by rw [e_k, hu]; decide)))]; exact if_neg (by rw [c_h]; decide)
          have erf : bumpR rf (saysC shI kmI (nI P) (nI k0)) = rf := by rw [hC]; exact bump_0 _
          have hI := wI_w (ws' := xW E ad iv ch rd tp (bumpR rf (saysC shI kmI (nI P) (nI k0))) (hdI shI aqI) (adn 10) tr (adg 8) dy im ++ (gW E adg (va_up ivg 5 c5_129) gr2_129 pa2_129 mo2_129 sg2_129 tn2_129 ++ (tW E adn ivn hrn csn (sK K) ++ (itsW (itF E aqI shI soI szI kmI bmI RI))))) (by rw [erf]; try rfl) hI
          exact hret (mo2_129, sg2_129, gr2_129, pa2_129, tn2_129, c5_129) (nI (sentV K csn n st zk zb (2 ^ n - 1) 0)) _ _ 0 0 _ _ dX0_says_132 hI (by show (nI (sentV K csn n st zk zb (2 ^ n - 1) 0)) = gd (saysC shI kmI (nI P) (nI k0)) (saysV kmI bmI K csn n st (nI P) (nI k0)) (saysC shI kmI (nI P) (nI k0)); rw [hC, gd_0]; unfold saysV; rw [if_neg (by rw [e_k]; decide), nI_clamp (n := P) (by omega), hzk9, nI_clamp (n := zk) (by omega), hzb9, nI_clamp (n := zb) (by omega)]) (Nat.le_of_ble_eq_true rfl) (Nat.le_of_ble_eq_true rfl) rfl
    · skip
      have c_10 : ¬ (Int32.toInt 0 ≤ Int32.toInt k ∧ Int32.toInt k ≤ Int32.toInt 5) := of_decide_eq_false c_10
      have c_10 : ¬ (0 ≤ k.toInt ∧ k.toInt ≤ 5) := by exact c_10
      refine lv_if_ne (tgt := 23) hxR hbR dX0_says_13 (by decide) (fun c => absurd c (by decide)) (fun _ => ?_)
      refine lv_aload_n hxR hbR dX0_says_16 rfl (lv_at hl 0 rfl) ?_
      refine lv_bipush (v := (-2)) hxR hbR dX0_says_17 (by decide) ?_
      refine kVI (n := 1) (As := [.int (-2)]) (rest := []) (fun w => w ++ (gW E adg ivg grg pag mog sgg tng ++ (tW E adn ivn hrn csn (sK K) ++ (itsW (itF E aqI shI soI szI kmI bmI RI))))) hxR hbR hmlR hts hown hK hA hl.1 (isCtx.suf _) hI (c0_no l E ad iv ch rd tp rf (hdI shI aqI) (adn 10) tr (adg 8) dy im (-2) 2 (by decide) (by decide)) (lw_V q396 q398 qs2 q81 q399) ⟨rfl, by decide +kernel⟩ 8 0 rfl rfl xW_o rfl (Nat.le_of_ble_eq_true rfl) (Nat.le_of_ble_eq_true rfl) ⟨Nat.le_of_ble_eq_true rfl, Nat.le_of_ble_eq_true rfl⟩ (Nat.le_of_ble_eq_true rfl) dX0_says_19 (fun r_19 u H locs hp hI hz => ?_)
      have hI : wI E AR sR H locs (xW E ad iv ch rd tp (va_up rf 2 (rf 2 + 1)) (hdI shI aqI) (adn 10) tr (adg 8) dy im ++ (gW E adg ivg grg pag mog sgg tng ++ (tW E adn ivn hrn csn (sK K) ++ (itsW (itF E aqI shI soI szI kmI bmI RI))))) := hI
      have hp : r_19 = (-2) := hp
      have hr_19 := hp
      subst hr_19
      have hC : saysC shI kmI (nI P) k = (-2) := by
        clear hret hI
        unfold saysC; exact if_neg (fun z => c_10 z.2)
      have erf : bumpR rf (saysC shI kmI (nI P) k) = va_up rf 2 (rf 2 + 1) := by rw [hC]; exact bump_2 _
      have hI := wI_w (ws' := xW E ad iv ch rd tp (bumpR rf (saysC shI kmI (nI P) k)) (hdI shI aqI) (adn 10) tr (adg 8) dy im ++ (gW E adg (va_up ivg 5 (ivg 5)) grg pag mog sgg tng ++ (tW E adn ivn hrn csn (sK K) ++ (itsW (itF E aqI shI soI szI kmI bmI RI))))) (by rw [erf, va_up_id (f := ivg) (k := 5) (v := ivg 5) rfl]; try rfl) hI
      exact hret (mog, sgg, grg, pag, tng, ivg 5) (-2) _ _ 0 0 _ _ dX0_says_22 hI (by show (-2) = gd (saysC shI kmI (nI P) k) (saysV kmI bmI K csn n st (nI P) k) (saysC shI kmI (nI P) k); rw [hC]; first | rfl | (simp only [nI_clamp (n := P) (by omega)]; rfl) | (simp only [gd_0, nI_clamp (n := P) (by omega)]; split <;> first | rfl | contradiction)) (Nat.le_of_ble_eq_true rfl) (Nat.le_of_ble_eq_true rfl) rfl
  · skip
    have c_1 : ¬ (0 ≤ Int32.toInt x ∧ Int32.toInt x ≤ 7) := of_decide_eq_false c_1
    refine lv_if_eq (tgt := 16) hxR hbR dX0_says_4 (by decide) (fun _ => ?_) (fun c => absurd c (by decide))
    refine lv_aload_n hxR hbR dX0_says_16 rfl (lv_at hl 0 rfl) ?_
    refine lv_bipush (v := (-2)) hxR hbR dX0_says_17 (by decide) ?_
    refine kVI (n := 1) (As := [.int (-2)]) (rest := []) (fun w => w ++ (gW E adg ivg grg pag mog sgg tng ++ (tW E adn ivn hrn csn (sK K) ++ (itsW (itF E aqI shI soI szI kmI bmI RI))))) hxR hbR hmlR hts hown hK hA hl.1 (isCtx.suf _) hI (c0_no l E ad iv ch rd tp rf (hdI shI aqI) (adn 10) tr (adg 8) dy im (-2) 2 (by decide) (by decide)) (lw_V q396 q398 qs2 q81 q399) ⟨rfl, by decide +kernel⟩ 8 0 rfl rfl xW_o rfl (Nat.le_of_ble_eq_true rfl) (Nat.le_of_ble_eq_true rfl) ⟨Nat.le_of_ble_eq_true rfl, Nat.le_of_ble_eq_true rfl⟩ (Nat.le_of_ble_eq_true rfl) dX0_says_19 (fun r_19 u H locs hp hI hz => ?_)
    have hI : wI E AR sR H locs (xW E ad iv ch rd tp (va_up rf 2 (rf 2 + 1)) (hdI shI aqI) (adn 10) tr (adg 8) dy im ++ (gW E adg ivg grg pag mog sgg tng ++ (tW E adn ivn hrn csn (sK K) ++ (itsW (itF E aqI shI soI szI kmI bmI RI))))) := hI
    have hp : r_19 = (-2) := hp
    have hr_19 := hp
    subst hr_19
    have hC : saysC shI kmI x k = (-2) := by
      clear hret hI
      unfold saysC; exact if_neg (fun z => c_1 z.1)
    have erf : bumpR rf (saysC shI kmI x k) = va_up rf 2 (rf 2 + 1) := by rw [hC]; exact bump_2 _
    have hI := wI_w (ws' := xW E ad iv ch rd tp (bumpR rf (saysC shI kmI x k)) (hdI shI aqI) (adn 10) tr (adg 8) dy im ++ (gW E adg (va_up ivg 5 (ivg 5)) grg pag mog sgg tng ++ (tW E adn ivn hrn csn (sK K) ++ (itsW (itF E aqI shI soI szI kmI bmI RI))))) (by rw [erf, va_up_id (f := ivg) (k := 5) (v := ivg 5) rfl]; try rfl) hI
    exact hret (mog, sgg, grg, pag, tng, ivg 5) (-2) _ _ 0 0 _ _ dX0_says_22 hI (by show (-2) = gd (saysC shI kmI x k) (saysV kmI bmI K csn n st x k) (saysC shI kmI x k); rw [hC]; first | rfl | (simp only [gd_0]; split <;> first | rfl | contradiction)) (Nat.le_of_ble_eq_true rfl) (Nat.le_of_ble_eq_true rfl) rfl
