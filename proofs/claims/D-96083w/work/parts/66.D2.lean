theorem c0_groups (l : Launch) (E : En) (ad : Nat → Nat) (iv : Nat → Int32) (ch : Nat → Int32) (rd : Nat → Int32) (tp : Nat → Int32) (rf : Nat → Int32) (hd : Nat → Option Nat) (tr : Nat) (dy : Nat) (im : Option Nat) (adg : Nat → Nat) (ivg : Nat → Int32) (grg : Nat → Int32) (pag : Nat → Int32) (mog : Nat → Int32) (sgg : Nat → Int32) (tng : Option Nat) (adn : Nat → Nat) (ivn : Nat → Int32) (hrn : Nat → Int32) (csn : Nat → Int32) (K : Nat → Nat → Int32) (n st : Nat)  (hn : ivn 3 = nI n) (hst : ivn 4 = nI st) (hn7 : n ≤ 7) (hs2 : 2 ≤ st) (hs4 : st ≤ 4) (hsym : kSym K n) : CtT l E yX0_groups cX0_groups 1 (Jvm.ClassFile.FieldType.object "ThreeStrangers$Groups") 13 0 0 [.ref (ad 11)] (xW E ad iv ch rd tp rf hd (adn 10) tr (adg 8) dy im ++ (gW E adg ivg grg pag mog sgg tng ++ (tW E adn ivn hrn csn (sK K)))) (fun (u : (Nat → Int32) × (Nat → Int32)) => (∀ Z, Z < 2 ^ n → u.1 Z = nI (mostV (GL K n st) Z)) ∧ (∀ p, p < n → u.2 p = nI (strS K p n))) (fun (u : (Nat → Int32) × (Nat → Int32)) => xW E ad iv ch rd tp rf hd (adn 10) tr (adg 8) dy im ++ (gW E adg (va_up ivg 5 (nI ((GL K n st).length))) (wrL grg 0 (GL K n st)) (wrL pag 0 ((GL K n st).map pairN)) u.1 u.2 (some (adn 10)) ++ (tW E adn ivn hrn csn (sK K)))) (fun (u : (Nat → Int32) × (Nat → Int32)) => adg 8) := by
  refine CtT.of (by decide +kernel) (Nat.le_of_ble_eq_true rfl) (by first | exact Or.inl ⟨_, rfl⟩ | exact Or.inr ⟨_, rfl⟩) ?_
  intro pR eR sR mR aR bR tR cR AR ls QR hxR hbR hmlR hts hown hlk hnm hA hK hI hl hret
  have hl : lv_has ls 1 [(0, .ref (ad 11))] := hl
  refine lv_aload_n hxR hbR dX0_groups_0 rfl (lv_at hl 0 rfl) ?_
  refine r_get hxR hbR hts hown hK hI okX0 (ci := 0) rfl 8 (he_l xW_o) 3 (by decide) q267 rfl (v := .ref (adg 8)) rfl dX0_groups_1 ?_
  refine lv_aload_n hxR hbR dX0_groups_4 rfl (lv_at hl 0 rfl) ?_
  refine r_get hxR hbR hts hown hK hI okX0 (ci := 0) rfl 8 (he_l xW_o) 0 (by decide) q263 rfl (v := .ref (adn 10)) rfl dX0_groups_5 ?_
  refine kVT (n := 1) (As := [.ref (adn 10)]) (rest := []) (fun w => (xW E ad iv ch rd tp rf hd (adn 10) tr (adg 8) dy im) ++ w) hxR hbR hmlR hts hown hK hA hl.1 (isCtx.pre _) hI (c2_of l E adg ivg grg pag mog sgg tng adn ivn hrn csn K n st hn hst (by first | omega | with_reducible assumption) (by first | omega | with_reducible assumption) (by first | omega | with_reducible assumption) (by first | omega | with_reducible assumption)) (lw_V q630 q631 q632 q83 q633) ⟨rfl, by decide +kernel⟩ 0 2 rfl rfl (he_l gW_o) rfl (Nat.le_of_ble_eq_true rfl) (Nat.le_of_ble_eq_true rfl) ⟨Nat.le_of_ble_eq_true rfl, Nat.le_of_ble_eq_true rfl⟩ (Nat.le_of_ble_eq_true rfl) dX0_groups_8 (fun u H locs hp hI hz => ?_)
  obtain ⟨mo2_8, sg2_8⟩ := u
  have hI : wI E AR sR H locs (xW E ad iv ch rd tp rf hd (adn 10) tr (adg 8) dy im ++ (gW E adg (va_up ivg 5 (nI ((GL K n st).length))) (wrL grg 0 (GL K n st)) (wrL pag 0 ((GL K n st).map pairN)) mo2_8 sg2_8 (some (adn 10)) ++ (tW E adn ivn hrn csn (sK K)))) := hI
  have hp : (∀ Z, Z < 2 ^ n → mo2_8 Z = nI (mostV (GL K n st) Z)) ∧ (∀ p, p < n → sg2_8 p = nI (strS K p n)) := hp
  obtain ⟨hmo_8, hsg_8⟩ := hp
  exact hret (mo2_8, sg2_8) _ _ _ _ _ _ dX0_groups_11 hI ⟨hmo_8, hsg_8⟩ (Nat.le_of_ble_eq_true rfl) (Nat.le_of_ble_eq_true rfl)

theorem c0_isGroup (l : Launch) (E : En) (ad : Nat → Nat) (iv : Nat → Int32) (ch : Nat → Int32) (rd : Nat → Int32) (tp : Nat → Int32) (rf : Nat → Int32) (hd : Nat → Option Nat) (tr : Nat) (dy : Nat) (im : Option Nat) (adg : Nat → Nat) (ivg : Nat → Int32) (grg : Nat → Int32) (pag : Nat → Int32) (mog : Nat → Int32) (sgg : Nat → Int32) (tng : Option Nat) (adn : Nat → Nat) (ivn : Nat → Int32) (hrn : Nat → Int32) (csn : Nat → Int32) (K : Nat → Nat → Int32) (n st : Nat) (x : Int32) (hn : ivn 3 = nI n) (hst : ivn 4 = nI st) (hn7 : n ≤ 7) (hs2 : 2 ≤ st) (hs4 : st ≤ 4) (hsym : kSym K n) : CtI l E yX0_isGroup cX0_isGroup 2 .int 15 0 0 [.ref (ad 11), .int x] (xW E ad iv ch rd tp rf hd (adn 10) tr (adg 8) dy im ++ (gW E adg ivg grg pag mog sgg tng ++ (tW E adn ivn hrn csn (sK K)))) (fun (r : Int32) (u : (Nat → Int32) × (Nat → Int32) × Int32 × (Nat → Int32) × (Nat → Int32) × (Option Nat)) => r = gd (feastC n x) (b2i (decide (x.toNatClampNeg ∈ GL K n st))) (feastC n x)) (fun (u : (Nat → Int32) × (Nat → Int32) × Int32 × (Nat → Int32) × (Nat → Int32) × (Option Nat)) => xW E ad iv ch rd tp (bumpR rf (feastC n x)) hd (adn 10) tr (adg 8) dy im ++ (gW E adg (va_up ivg 5 u.2.2.1) u.2.2.2.1 u.2.2.2.2.1 u.1 u.2.1 u.2.2.2.2.2 ++ (tW E adn ivn hrn csn (sK K)))) := by
  have h28 : 2 ^ n ≤ 2 ^ 7 := Nat.pow_le_pow_right (by decide) hn7
  refine CtI.of (by decide +kernel) (Nat.le_of_ble_eq_true rfl) ?_
  intro pR eR sR mR aR bR tR cR AR ls QR hxR hbR hmlR hts hown hlk hnm hA hK hI hl hret
  have hl : lv_has ls 2 [(0, .ref (ad 11)), (1, .int x)] := hl
  refine lv_aload_n hxR hbR dX0_isGroup_0 rfl (lv_at hl 0 rfl) ?_
  refine r_get hxR hbR hts hown hK hI okX0 (ci := 0) rfl 8 (he_l xW_o) 0 (by decide) q263 rfl (v := .ref (adn 10)) rfl dX0_isGroup_1 ?_
  refine lv_iload_n hxR hbR dX0_isGroup_4 rfl (lv_at hl 1 rfl) ?_
  have hI := wI_w app2 hI
  refine kVI (n := 1) (As := [.int x]) (rest := []) (fun w => (xW E ad iv ch rd tp rf hd (adn 10) tr (adg 8) dy im ++ (gW E adg ivg grg pag mog sgg tng)) ++ w) hxR hbR hmlR hts hown hK hA hl.1 (isCtx.pre _) hI (c1_isSet l E adn ivn hrn csn K n x hn (by omega)) (lw_V q1168 q1169 q1170 q82 q1171) ⟨rfl, by decide +kernel⟩ 0 1 rfl rfl tW_o rfl (Nat.le_of_ble_eq_true rfl) (Nat.le_of_ble_eq_true rfl) ⟨Nat.le_of_ble_eq_true rfl, Nat.le_of_ble_eq_true rfl⟩ (Nat.le_of_ble_eq_true rfl) dX0_isGroup_5 (fun r_5 u H locs hp hI hz => ?_)
  have hI := wI_w app2.symm hI
  have hI : wI E AR sR H locs (xW E ad iv ch rd tp rf hd (adn 10) tr (adg 8) dy im ++ (gW E adg ivg grg pag mog sgg tng ++ (tW E adn ivn hrn csn (sK K)))) := hI
  have hp : r_5 = b2i (decide (0 ≤ x.toInt ∧ x.toInt < ((2 ^ n : Nat) : Int))) := hp
  have hr_5 := hp
  rcases b2i_cases hr_5 with ⟨c_5, rfl⟩ | ⟨c_5, rfl⟩
  · skip
    have c_5 : 0 ≤ Int32.toInt x ∧ Int32.toInt x < ((2 ^ n : Nat) : Int) := of_decide_eq_true c_5
    obtain ⟨P, hP, rfl⟩ := nat_of c_5 (by omega)
    have tP : (nI P).toInt = (P : Int) := nI_toInt (by omega)
    refine lv_if_ne (tgt := 18) hxR hbR dX0_isGroup_8 (by decide) (fun _ => ?_) (fun c => absurd c (by decide))
    refine lv_aload_n hxR hbR dX0_isGroup_18 rfl (lv_at hl 0 rfl) ?_
    refine kVT (n := 0) (As := []) (rest := []) (fun w => w) hxR hbR hmlR hts hown hK hA hl.1 isCtx.id hI (c0_groups l E ad iv ch rd tp rf hd tr dy im adg ivg grg pag mog sgg tng adn ivn hrn csn K n st hn hst (by first | omega | with_reducible assumption) (by first | omega | with_reducible assumption) (by first | omega | with_reducible assumption) (by first | omega | with_reducible assumption)) (lw_V q626 q628 qs5 q81 q629) ⟨rfl, by decide +kernel⟩ 8 0 rfl rfl (he_l xW_o) rfl (Nat.le_of_ble_eq_true rfl) (Nat.le_of_ble_eq_true rfl) ⟨Nat.le_of_ble_eq_true rfl, Nat.le_of_ble_eq_true rfl⟩ (Nat.le_of_ble_eq_true rfl) dX0_isGroup_19 (fun u H locs hp hI hz => ?_)
    obtain ⟨mo2_19, sg2_19⟩ := u
    have hI : wI E AR sR H locs (xW E ad iv ch rd tp rf hd (adn 10) tr (adg 8) dy im ++ (gW E adg (va_up ivg 5 (nI ((GL K n st).length))) (wrL grg 0 (GL K n st)) (wrL pag 0 ((GL K n st).map pairN)) mo2_19 sg2_19 (some (adn 10)) ++ (tW E adn ivn hrn csn (sK K)))) := hI
    have hp : (∀ Z, Z < 2 ^ n → mo2_19 Z = nI (mostV (GL K n st) Z)) ∧ (∀ p, p < n → sg2_19 p = nI (strS K p n)) := hp
    obtain ⟨hmo_19, hsg_19⟩ := hp
    have hLg : gL (wrL grg 0 (GL K n st)) (GL K n st) := gL_wr hn7 hs2 hs4
    have hl35 := hLg.2.1
    refine lv_iload_n hxR hbR dX0_isGroup_22 rfl (lv_at hl 1 rfl) ?_
    refine kVI (n := 1) (As := [.int (nI P)]) (rest := []) (fun w => (xW E ad iv ch rd tp rf hd (adn 10) tr (adg 8) dy im) ++ (w ++ (tW E adn ivn hrn csn (sK K)))) hxR hbR hmlR hts hown hK hA hl.1 (isCtx.mk _ _) hI (c2_has1 l E adg (va_up ivg 5 (nI ((GL K n st).length))) (wrL grg 0 (GL K n st)) (wrL pag 0 ((GL K n st).map pairN)) mo2_19 sg2_19 (some (adn 10)) (GL K n st) P va_up_s (by first | omega | with_reducible assumption) (by omega)) (lw_V q1173 q1174 q1175 q83 q1176) ⟨rfl, by decide +kernel⟩ 0 2 rfl rfl gW_o rfl (Nat.le_of_ble_eq_true rfl) (Nat.le_of_ble_eq_true rfl) ⟨Nat.le_of_ble_eq_true rfl, Nat.le_of_ble_eq_true rfl⟩ (Nat.le_of_ble_eq_true rfl) dX0_isGroup_23 (fun r_23 u H locs hp hI hz => ?_)
    have hI : wI E AR sR H locs (xW E ad iv ch rd tp rf hd (adn 10) tr (adg 8) dy im ++ (gW E adg (va_up ivg 5 (nI ((GL K n st).length))) (wrL grg 0 (GL K n st)) (wrL pag 0 ((GL K n st).map pairN)) mo2_19 sg2_19 (some (adn 10)) ++ (tW E adn ivn hrn csn (sK K)))) := hI
    have hp : r_23 = b2i (decide (P ∈ (GL K n st))) := hp
    have hr_23 := hp
    rcases b2i_cases hr_23 with ⟨c_23, rfl⟩ | ⟨c_23, rfl⟩
    · skip
      have c_23 : P ∈ (GL K n st) := of_decide_eq_true c_23
      refine lv_if_eq (tgt := 33) hxR hbR dX0_isGroup_26 (by decide) (fun c => absurd c (by decide)) (fun _ => ?_)
      refine lv_iconst (v := 1) hxR hbR dX0_isGroup_29 (by decide) ?_
      refine lv_goto (tgt := 34) hxR hbR dX0_isGroup_30 (by decide) ?_
      have hC : feastC n (nI P) = 0 := by
        clear hret hI
        unfold feastC
        try simp only [nI_clamp (n := P) (by omega)]
        repeat' split
        all_goals first | rfl | (exfalso; omega) | contradiction | (exfalso; simp_all; done) | simp_all
      have erf : bumpR rf (feastC n (nI P)) = rf := by rw [hC]; exact bump_0 _
      have hI := wI_w (ws' := xW E ad iv ch rd tp (bumpR rf (feastC n (nI P))) hd (adn 10) tr (adg 8) dy im ++ (gW E adg (va_up ivg 5 (nI ((GL K n st).length))) (wrL grg 0 (GL K n st)) (wrL pag 0 ((GL K n st).map pairN)) mo2_19 sg2_19 (some (adn 10)) ++ (tW E adn ivn hrn csn (sK K)))) (by rw [erf]; try rfl) hI
      exact hret (mo2_19, sg2_19, nI ((GL K n st).length), wrL grg 0 (GL K n st), wrL pag 0 ((GL K n st).map pairN), some (adn 10)) 1 _ _ 0 0 _ _ dX0_isGroup_34 hI (by show 1 = gd (feastC n (nI P)) (b2i (decide ((nI P).toNatClampNeg ∈ GL K n st))) (feastC n (nI P)); rw [hC]; simp only [nI_clamp (n := P) (by omega)]; first | (rw [decide_eq_true c_23]; rfl) | (rw [decide_eq_false c_23]; rfl)) (Nat.le_of_ble_eq_true rfl) (Nat.le_of_ble_eq_true rfl) rfl
    · skip
      have c_23 : ¬ P ∈ (GL K n st) := of_decide_eq_false c_23
      refine lv_if_eq (tgt := 33) hxR hbR dX0_isGroup_26 (by decide) (fun _ => ?_) (fun c => absurd c (by decide))
      refine lv_iconst (v := 0) hxR hbR dX0_isGroup_33 (by decide) ?_
      have hC : feastC n (nI P) = 0 := by
        clear hret hI
        unfold feastC
        try simp only [nI_clamp (n := P) (by omega)]
        repeat' split
        all_goals first | rfl | (exfalso; omega) | contradiction | (exfalso; simp_all; done) | simp_all
      have erf : bumpR rf (feastC n (nI P)) = rf := by rw [hC]; exact bump_0 _
      have hI := wI_w (ws' := xW E ad iv ch rd tp (bumpR rf (feastC n (nI P))) hd (adn 10) tr (adg 8) dy im ++ (gW E adg (va_up ivg 5 (nI ((GL K n st).length))) (wrL grg 0 (GL K n st)) (wrL pag 0 ((GL K n st).map pairN)) mo2_19 sg2_19 (some (adn 10)) ++ (tW E adn ivn hrn csn (sK K)))) (by rw [erf]; try rfl) hI
      exact hret (mo2_19, sg2_19, nI ((GL K n st).length), wrL grg 0 (GL K n st), wrL pag 0 ((GL K n st).map pairN), some (adn 10)) 0 _ _ 0 0 _ _ dX0_isGroup_34 hI (by show 0 = gd (feastC n (nI P)) (b2i (decide ((nI P).toNatClampNeg ∈ GL K n st))) (feastC n (nI P)); rw [hC]; simp only [nI_clamp (n := P) (by omega)]; first | (rw [decide_eq_true c_23]; rfl) | (rw [decide_eq_false c_23]; rfl)) (Nat.le_of_ble_eq_true rfl) (Nat.le_of_ble_eq_true rfl) rfl
  · skip
    have c_5 : ¬ (0 ≤ Int32.toInt x ∧ Int32.toInt x < ((2 ^ n : Nat) : Int)) := of_decide_eq_false c_5
    refine lv_if_ne (tgt := 18) hxR hbR dX0_isGroup_8 (by decide) (fun c => absurd c (by decide)) (fun _ => ?_)
    refine lv_aload_n hxR hbR dX0_isGroup_11 rfl (lv_at hl 0 rfl) ?_
    refine lv_bipush (v := (-2)) hxR hbR dX0_isGroup_12 (by decide) ?_
    refine kVI (n := 1) (As := [.int (-2)]) (rest := []) (fun w => w ++ (gW E adg ivg grg pag mog sgg tng ++ (tW E adn ivn hrn csn (sK K)))) hxR hbR hmlR hts hown hK hA hl.1 (isCtx.suf _) hI (c0_no l E ad iv ch rd tp rf hd (adn 10) tr (adg 8) dy im (-2) 2 (by decide) (by decide)) (lw_V q396 q398 qs2 q81 q399) ⟨rfl, by decide +kernel⟩ 8 0 rfl rfl xW_o rfl (Nat.le_of_ble_eq_true rfl) (Nat.le_of_ble_eq_true rfl) ⟨Nat.le_of_ble_eq_true rfl, Nat.le_of_ble_eq_true rfl⟩ (Nat.le_of_ble_eq_true rfl) dX0_isGroup_14 (fun r_14 u H locs hp hI hz => ?_)
    have hI : wI E AR sR H locs (xW E ad iv ch rd tp (va_up rf 2 (rf 2 + 1)) hd (adn 10) tr (adg 8) dy im ++ (gW E adg ivg grg pag mog sgg tng ++ (tW E adn ivn hrn csn (sK K)))) := hI
    have hp : r_14 = (-2) := hp
    have hr_14 := hp
    subst hr_14
    have hC : feastC n x = (-2) := by
      clear hret hI
      unfold feastC
      repeat' split
      all_goals first | rfl | (exfalso; omega) | contradiction | (exfalso; simp_all; done) | simp_all
    have erf : bumpR rf (feastC n x) = va_up rf 2 (rf 2 + 1) := by rw [hC]; exact bump_2 _
    have hI := wI_w (ws' := xW E ad iv ch rd tp (bumpR rf (feastC n x)) hd (adn 10) tr (adg 8) dy im ++ (gW E adg (va_up ivg 5 (ivg 5)) grg pag mog sgg tng ++ (tW E adn ivn hrn csn (sK K)))) (by rw [erf, va_up_id (f := ivg) (k := 5) (v := ivg 5) rfl]; try rfl) hI
    exact hret (mog, sgg, ivg 5, grg, pag, tng) (-2) _ _ 0 0 _ _ dX0_isGroup_17 hI (by show (-2) = gd (feastC n x) (b2i (decide (x.toNatClampNeg ∈ GL K n st))) (feastC n x); rw [hC]; first | rfl | (simp only [gd_0]; split <;> first | rfl | contradiction)) (Nat.le_of_ble_eq_true rfl) (Nat.le_of_ble_eq_true rfl) rfl

theorem c0_groups_2 (l : Launch) (E : En) (ad : Nat → Nat) (iv : Nat → Int32) (ch : Nat → Int32) (rd : Nat → Int32) (tp : Nat → Int32) (rf : Nat → Int32) (hd : Nat → Option Nat) (tr : Nat) (dy : Nat) (im : Option Nat) (adg : Nat → Nat) (ivg : Nat → Int32) (grg : Nat → Int32) (pag : Nat → Int32) (mog : Nat → Int32) (sgg : Nat → Int32) (tng : Option Nat) (adn : Nat → Nat) (ivn : Nat → Int32) (hrn : Nat → Int32) (csn : Nat → Int32) (K : Nat → Nat → Int32) (n st : Nat) (x : Int32) (hn : ivn 3 = nI n) (hst : ivn 4 = nI st) (hn7 : n ≤ 7) (hs2 : 2 ≤ st) (hs4 : st ≤ 4) (hsym : kSym K n) : CtI l E yX0_groups_2 cX0_groups_2 2 .int 15 0 0 [.ref (ad 11), .int x] (xW E ad iv ch rd tp rf hd (adn 10) tr (adg 8) dy im ++ (gW E adg ivg grg pag mog sgg tng ++ (tW E adn ivn hrn csn (sK K)))) (fun (r : Int32) (u : (Nat → Int32) × (Nat → Int32) × Int32 × (Nat → Int32) × (Nat → Int32) × (Option Nat)) => r = gd (feastC n x) (nI (cntL x.toNatClampNeg (GL K n st))) (feastC n x)) (fun (u : (Nat → Int32) × (Nat → Int32) × Int32 × (Nat → Int32) × (Nat → Int32) × (Option Nat)) => xW E ad iv ch rd tp (bumpR rf (feastC n x)) hd (adn 10) tr (adg 8) dy im ++ (gW E adg (va_up ivg 5 u.2.2.1) u.2.2.2.1 u.2.2.2.2.1 u.1 u.2.1 u.2.2.2.2.2 ++ (tW E adn ivn hrn csn (sK K)))) := by
  have h28 : 2 ^ n ≤ 2 ^ 7 := Nat.pow_le_pow_right (by decide) hn7
  refine CtI.of (by decide +kernel) (Nat.le_of_ble_eq_true rfl) ?_
  intro pR eR sR mR aR bR tR cR AR ls QR hxR hbR hmlR hts hown hlk hnm hA hK hI hl hret
  have hl : lv_has ls 2 [(0, .ref (ad 11)), (1, .int x)] := hl
  refine lv_aload_n hxR hbR dX0_groups_2_0 rfl (lv_at hl 0 rfl) ?_
  refine r_get hxR hbR hts hown hK hI okX0 (ci := 0) rfl 8 (he_l xW_o) 0 (by decide) q263 rfl (v := .ref (adn 10)) rfl dX0_groups_2_1 ?_
  refine lv_iload_n hxR hbR dX0_groups_2_4 rfl (lv_at hl 1 rfl) ?_
  have hI := wI_w app2 hI
  refine kVI (n := 1) (As := [.int x]) (rest := []) (fun w => (xW E ad iv ch rd tp rf hd (adn 10) tr (adg 8) dy im ++ (gW E adg ivg grg pag mog sgg tng)) ++ w) hxR hbR hmlR hts hown hK hA hl.1 (isCtx.pre _) hI (c1_isSet l E adn ivn hrn csn K n x hn (by omega)) (lw_V q1168 q1169 q1170 q82 q1171) ⟨rfl, by decide +kernel⟩ 0 1 rfl rfl tW_o rfl (Nat.le_of_ble_eq_true rfl) (Nat.le_of_ble_eq_true rfl) ⟨Nat.le_of_ble_eq_true rfl, Nat.le_of_ble_eq_true rfl⟩ (Nat.le_of_ble_eq_true rfl) dX0_groups_2_5 (fun r_5 u H locs hp hI hz => ?_)
  have hI := wI_w app2.symm hI
  have hI : wI E AR sR H locs (xW E ad iv ch rd tp rf hd (adn 10) tr (adg 8) dy im ++ (gW E adg ivg grg pag mog sgg tng ++ (tW E adn ivn hrn csn (sK K)))) := hI
  have hp : r_5 = b2i (decide (0 ≤ x.toInt ∧ x.toInt < ((2 ^ n : Nat) : Int))) := hp
  have hr_5 := hp
  rcases b2i_cases hr_5 with ⟨c_5, rfl⟩ | ⟨c_5, rfl⟩
  · skip
    have c_5 : 0 ≤ Int32.toInt x ∧ Int32.toInt x < ((2 ^ n : Nat) : Int) := of_decide_eq_true c_5
    obtain ⟨P, hP, rfl⟩ := nat_of c_5 (by omega)
    have tP : (nI P).toInt = (P : Int) := nI_toInt (by omega)
    refine lv_if_eq (tgt := 22) hxR hbR dX0_groups_2_8 (by decide) (fun c => absurd c (by decide)) (fun _ => ?_)
    refine lv_aload_n hxR hbR dX0_groups_2_11 rfl (lv_at hl 0 rfl) ?_
    refine kVT (n := 0) (As := []) (rest := []) (fun w => w) hxR hbR hmlR hts hown hK hA hl.1 isCtx.id hI (c0_groups l E ad iv ch rd tp rf hd tr dy im adg ivg grg pag mog sgg tng adn ivn hrn csn K n st hn hst (by first | omega | with_reducible assumption) (by first | omega | with_reducible assumption) (by first | omega | with_reducible assumption) (by first | omega | with_reducible assumption)) (lw_V q626 q628 qs5 q81 q629) ⟨rfl, by decide +kernel⟩ 8 0 rfl rfl (he_l xW_o) rfl (Nat.le_of_ble_eq_true rfl) (Nat.le_of_ble_eq_true rfl) ⟨Nat.le_of_ble_eq_true rfl, Nat.le_of_ble_eq_true rfl⟩ (Nat.le_of_ble_eq_true rfl) dX0_groups_2_12 (fun u H locs hp hI hz => ?_)
    obtain ⟨mo2_12, sg2_12⟩ := u
    have hI : wI E AR sR H locs (xW E ad iv ch rd tp rf hd (adn 10) tr (adg 8) dy im ++ (gW E adg (va_up ivg 5 (nI ((GL K n st).length))) (wrL grg 0 (GL K n st)) (wrL pag 0 ((GL K n st).map pairN)) mo2_12 sg2_12 (some (adn 10)) ++ (tW E adn ivn hrn csn (sK K)))) := hI
    have hp : (∀ Z, Z < 2 ^ n → mo2_12 Z = nI (mostV (GL K n st) Z)) ∧ (∀ p, p < n → sg2_12 p = nI (strS K p n)) := hp
    obtain ⟨hmo_12, hsg_12⟩ := hp
    have hLg : gL (wrL grg 0 (GL K n st)) (GL K n st) := gL_wr hn7 hs2 hs4
    have hl35 := hLg.2.1
    refine lv_iload_n hxR hbR dX0_groups_2_15 rfl (lv_at hl 1 rfl) ?_
    refine kVI (n := 1) (As := [.int (nI P)]) (rest := []) (fun w => (xW E ad iv ch rd tp rf hd (adn 10) tr (adg 8) dy im) ++ (w ++ (tW E adn ivn hrn csn (sK K)))) hxR hbR hmlR hts hown hK hA hl.1 (isCtx.mk _ _) hI (c2_many l E adg (va_up ivg 5 (nI ((GL K n st).length))) (wrL grg 0 (GL K n st)) (wrL pag 0 ((GL K n st).map pairN)) mo2_12 sg2_12 (some (adn 10)) (GL K n st) P va_up_s (by first | omega | with_reducible assumption) (by omega)) (lw_V q1181 q1182 q1183 q83 q1184) ⟨rfl, by decide +kernel⟩ 0 2 rfl rfl gW_o rfl (Nat.le_of_ble_eq_true rfl) (Nat.le_of_ble_eq_true rfl) ⟨Nat.le_of_ble_eq_true rfl, Nat.le_of_ble_eq_true rfl⟩ (Nat.le_of_ble_eq_true rfl) dX0_groups_2_16 (fun r_16 u H locs hp hI hz => ?_)
    have hI : wI E AR sR H locs (xW E ad iv ch rd tp rf hd (adn 10) tr (adg 8) dy im ++ (gW E adg (va_up ivg 5 (nI ((GL K n st).length))) (wrL grg 0 (GL K n st)) (wrL pag 0 ((GL K n st).map pairN)) mo2_12 sg2_12 (some (adn 10)) ++ (tW E adn ivn hrn csn (sK K)))) := hI
    have hp : r_16 = nI (cntL P (GL K n st)) := hp
    have hr_16 := hp
    subst hr_16
    refine lv_goto (tgt := 28) hxR hbR dX0_groups_2_19 (by decide) ?_
    have hC : feastC n (nI P) = 0 := by
      clear hret hI
      unfold feastC
      try simp only [nI_clamp (n := P) (by omega)]
      repeat' split
      all_goals first | rfl | (exfalso; omega) | contradiction | (exfalso; simp_all; done) | simp_all
    have erf : bumpR rf (feastC n (nI P)) = rf := by rw [hC]; exact bump_0 _
    have hI := wI_w (ws' := xW E ad iv ch rd tp (bumpR rf (feastC n (nI P))) hd (adn 10) tr (adg 8) dy im ++ (gW E adg (va_up ivg 5 (nI ((GL K n st).length))) (wrL grg 0 (GL K n st)) (wrL pag 0 ((GL K n st).map pairN)) mo2_12 sg2_12 (some (adn 10)) ++ (tW E adn ivn hrn csn (sK K)))) (by rw [erf]; try rfl) hI
    exact hret (mo2_12, sg2_12, nI ((GL K n st).length), wrL grg 0 (GL K n st), wrL pag 0 ((GL K n st).map pairN), some (adn 10)) (nI (cntL P (GL K n st))) _ _ 0 0 _ _ dX0_groups_2_28 hI (by show (nI (cntL P (GL K n st))) = gd (feastC n (nI P)) (nI (cntL (nI P).toNatClampNeg (GL K n st))) (feastC n (nI P)); rw [hC]; first | rfl | (simp only [nI_clamp (n := P) (by omega)]; rfl) | (simp only [gd_0, nI_clamp (n := P) (by omega)]; split <;> first | rfl | contradiction)) (Nat.le_of_ble_eq_true rfl) (Nat.le_of_ble_eq_true rfl) rfl
  · skip
    have c_5 : ¬ (0 ≤ Int32.toInt x ∧ Int32.toInt x < ((2 ^ n : Nat) : Int)) := of_decide_eq_false c_5
    refine lv_if_eq (tgt := 22) hxR hbR dX0_groups_2_8 (by decide) (fun _ => ?_) (fun c => absurd c (by decide))
    refine lv_aload_n hxR hbR dX0_groups_2_22 rfl (lv_at hl 0 rfl) ?_
    refine lv_bipush (v := (-2)) hxR hbR dX0_groups_2_23 (by decide) ?_
    refine kVI (n := 1) (As := [.int (-2)]) (rest := []) (fun w => w ++ (gW E adg ivg grg pag mog sgg tng ++ (tW E adn ivn hrn csn (sK K)))) hxR hbR hmlR hts hown hK hA hl.1 (isCtx.suf _) hI (c0_no l E ad iv ch rd tp rf hd (adn 10) tr (adg 8) dy im (-2) 2 (by decide) (by decide)) (lw_V q396 q398 qs2 q81 q399) ⟨rfl, by decide +kernel⟩ 8 0 rfl rfl xW_o rfl (Nat.le_of_ble_eq_true rfl) (Nat.le_of_ble_eq_true rfl) ⟨Nat.le_of_ble_eq_true rfl, Nat.le_of_ble_eq_true rfl⟩ (Nat.le_of_ble_eq_true rfl) dX0_groups_2_25 (fun r_25 u H locs hp hI hz => ?_)
    have hI : wI E AR sR H locs (xW E ad iv ch rd tp (va_up rf 2 (rf 2 + 1)) hd (adn 10) tr (adg 8) dy im ++ (gW E adg ivg grg pag mog sgg tng ++ (tW E adn ivn hrn csn (sK K)))) := hI
    have hp : r_25 = (-2) := hp
    have hr_25 := hp
    subst hr_25
    have hC : feastC n x = (-2) := by
      clear hret hI
      unfold feastC
      repeat' split
      all_goals first | rfl | (exfalso; omega) | contradiction | (exfalso; simp_all; done) | simp_all
    have erf : bumpR rf (feastC n x) = va_up rf 2 (rf 2 + 1) := by rw [hC]; exact bump_2 _
    have hI := wI_w (ws' := xW E ad iv ch rd tp (bumpR rf (feastC n x)) hd (adn 10) tr (adg 8) dy im ++ (gW E adg (va_up ivg 5 (ivg 5)) grg pag mog sgg tng ++ (tW E adn ivn hrn csn (sK K)))) (by rw [erf, va_up_id (f := ivg) (k := 5) (v := ivg 5) rfl]; try rfl) hI
    exact hret (mog, sgg, ivg 5, grg, pag, tng) (-2) _ _ 0 0 _ _ dX0_groups_2_28 hI (by show (-2) = gd (feastC n x) (nI (cntL x.toNatClampNeg (GL K n st))) (feastC n x); rw [hC]; first | rfl | (simp only [gd_0]; split <;> first | rfl | contradiction)) (Nat.le_of_ble_eq_true rfl) (Nat.le_of_ble_eq_true rfl) rfl

theorem c0_firstOf (l : Launch) (E : En) (ad : Nat → Nat) (iv : Nat → Int32) (ch : Nat → Int32) (rd : Nat → Int32) (tp : Nat → Int32) (rf : Nat → Int32) (hd : Nat → Option Nat) (tr : Nat) (dy : Nat) (im : Option Nat) (adg : Nat → Nat) (ivg : Nat → Int32) (grg : Nat → Int32) (pag : Nat → Int32) (mog : Nat → Int32) (sgg : Nat → Int32) (tng : Option Nat) (adn : Nat → Nat) (ivn : Nat → Int32) (hrn : Nat → Int32) (csn : Nat → Int32) (K : Nat → Nat → Int32) (n st : Nat) (x : Int32) (hn : ivn 3 = nI n) (hst : ivn 4 = nI st) (hn7 : n ≤ 7) (hs2 : 2 ≤ st) (hs4 : st ≤ 4) (hsym : kSym K n) : CtI l E yX0_firstOf cX0_firstOf 2 .int 15 0 0 [.ref (ad 11), .int x] (xW E ad iv ch rd tp rf hd (adn 10) tr (adg 8) dy im ++ (gW E adg ivg grg pag mog sgg tng ++ (tW E adn ivn hrn csn (sK K)))) (fun (r : Int32) (u : (Nat → Int32) × (Nat → Int32) × Int32 × (Nat → Int32) × (Nat → Int32) × (Option Nat)) => r = gd (feastC n x) (nI (firstL x.toNatClampNeg (GL K n st))) (feastC n x)) (fun (u : (Nat → Int32) × (Nat → Int32) × Int32 × (Nat → Int32) × (Nat → Int32) × (Option Nat)) => xW E ad iv ch rd tp (bumpR rf (feastC n x)) hd (adn 10) tr (adg 8) dy im ++ (gW E adg (va_up ivg 5 u.2.2.1) u.2.2.2.1 u.2.2.2.2.1 u.1 u.2.1 u.2.2.2.2.2 ++ (tW E adn ivn hrn csn (sK K)))) := by
  have h28 : 2 ^ n ≤ 2 ^ 7 := Nat.pow_le_pow_right (by decide) hn7
  refine CtI.of (by decide +kernel) (Nat.le_of_ble_eq_true rfl) ?_
  intro pR eR sR mR aR bR tR cR AR ls QR hxR hbR hmlR hts hown hlk hnm hA hK hI hl hret
  have hl : lv_has ls 2 [(0, .ref (ad 11)), (1, .int x)] := hl
  refine lv_aload_n hxR hbR dX0_firstOf_0 rfl (lv_at hl 0 rfl) ?_
  refine r_get hxR hbR hts hown hK hI okX0 (ci := 0) rfl 8 (he_l xW_o) 0 (by decide) q263 rfl (v := .ref (adn 10)) rfl dX0_firstOf_1 ?_
  refine lv_iload_n hxR hbR dX0_firstOf_4 rfl (lv_at hl 1 rfl) ?_
  have hI := wI_w app2 hI
  refine kVI (n := 1) (As := [.int x]) (rest := []) (fun w => (xW E ad iv ch rd tp rf hd (adn 10) tr (adg 8) dy im ++ (gW E adg ivg grg pag mog sgg tng)) ++ w) hxR hbR hmlR hts hown hK hA hl.1 (isCtx.pre _) hI (c1_isSet l E adn ivn hrn csn K n x hn (by omega)) (lw_V q1168 q1169 q1170 q82 q1171) ⟨rfl, by decide +kernel⟩ 0 1 rfl rfl tW_o rfl (Nat.le_of_ble_eq_true rfl) (Nat.le_of_ble_eq_true rfl) ⟨Nat.le_of_ble_eq_true rfl, Nat.le_of_ble_eq_true rfl⟩ (Nat.le_of_ble_eq_true rfl) dX0_firstOf_5 (fun r_5 u H locs hp hI hz => ?_)
  have hI := wI_w app2.symm hI
  have hI : wI E AR sR H locs (xW E ad iv ch rd tp rf hd (adn 10) tr (adg 8) dy im ++ (gW E adg ivg grg pag mog sgg tng ++ (tW E adn ivn hrn csn (sK K)))) := hI
  have hp : r_5 = b2i (decide (0 ≤ x.toInt ∧ x.toInt < ((2 ^ n : Nat) : Int))) := hp
  have hr_5 := hp
  rcases b2i_cases hr_5 with ⟨c_5, rfl⟩ | ⟨c_5, rfl⟩
  · skip
    have c_5 : 0 ≤ Int32.toInt x ∧ Int32.toInt x < ((2 ^ n : Nat) : Int) := of_decide_eq_true c_5
    obtain ⟨P, hP, rfl⟩ := nat_of c_5 (by omega)
    have tP : (nI P).toInt = (P : Int) := nI_toInt (by omega)
    refine lv_if_eq (tgt := 22) hxR hbR dX0_firstOf_8 (by decide) (fun c => absurd c (by decide)) (fun _ => ?_)
    refine lv_aload_n hxR hbR dX0_firstOf_11 rfl (lv_at hl 0 rfl) ?_
    refine kVT (n := 0) (As := []) (rest := []) (fun w => w) hxR hbR hmlR hts hown hK hA hl.1 isCtx.id hI (c0_groups l E ad iv ch rd tp rf hd tr dy im adg ivg grg pag mog sgg tng adn ivn hrn csn K n st hn hst (by first | omega | with_reducible assumption) (by first | omega | with_reducible assumption) (by first | omega | with_reducible assumption) (by first | omega | with_reducible assumption)) (lw_V q626 q628 qs5 q81 q629) ⟨rfl, by decide +kernel⟩ 8 0 rfl rfl (he_l xW_o) rfl (Nat.le_of_ble_eq_true rfl) (Nat.le_of_ble_eq_true rfl) ⟨Nat.le_of_ble_eq_true rfl, Nat.le_of_ble_eq_true rfl⟩ (Nat.le_of_ble_eq_true rfl) dX0_firstOf_12 (fun u H locs hp hI hz => ?_)
    obtain ⟨mo2_12, sg2_12⟩ := u
    have hI : wI E AR sR H locs (xW E ad iv ch rd tp rf hd (adn 10) tr (adg 8) dy im ++ (gW E adg (va_up ivg 5 (nI ((GL K n st).length))) (wrL grg 0 (GL K n st)) (wrL pag 0 ((GL K n st).map pairN)) mo2_12 sg2_12 (some (adn 10)) ++ (tW E adn ivn hrn csn (sK K)))) := hI
    have hp : (∀ Z, Z < 2 ^ n → mo2_12 Z = nI (mostV (GL K n st) Z)) ∧ (∀ p, p < n → sg2_12 p = nI (strS K p n)) := hp
    obtain ⟨hmo_12, hsg_12⟩ := hp
    have hLg : gL (wrL grg 0 (GL K n st)) (GL K n st) := gL_wr hn7 hs2 hs4
    have hl35 := hLg.2.1
    refine lv_iload_n hxR hbR dX0_firstOf_15 rfl (lv_at hl 1 rfl) ?_
    refine kVI (n := 1) (As := [.int (nI P)]) (rest := []) (fun w => (xW E ad iv ch rd tp rf hd (adn 10) tr (adg 8) dy im) ++ (w ++ (tW E adn ivn hrn csn (sK K)))) hxR hbR hmlR hts hown hK hA hl.1 (isCtx.mk _ _) hI (c2_first l E adg (va_up ivg 5 (nI ((GL K n st).length))) (wrL grg 0 (GL K n st)) (wrL pag 0 ((GL K n st).map pairN)) mo2_12 sg2_12 (some (adn 10)) (GL K n st) P va_up_s (by first | omega | with_reducible assumption) (by omega)) (lw_V q1189 q725 q726 q83 q727) ⟨rfl, by decide +kernel⟩ 0 2 rfl rfl gW_o rfl (Nat.le_of_ble_eq_true rfl) (Nat.le_of_ble_eq_true rfl) ⟨Nat.le_of_ble_eq_true rfl, Nat.le_of_ble_eq_true rfl⟩ (Nat.le_of_ble_eq_true rfl) dX0_firstOf_16 (fun r_16 u H locs hp hI hz => ?_)
    have hI : wI E AR sR H locs (xW E ad iv ch rd tp rf hd (adn 10) tr (adg 8) dy im ++ (gW E adg (va_up ivg 5 (nI ((GL K n st).length))) (wrL grg 0 (GL K n st)) (wrL pag 0 ((GL K n st).map pairN)) mo2_12 sg2_12 (some (adn 10)) ++ (tW E adn ivn hrn csn (sK K)))) := hI
    have hp : r_16 = nI (firstL P (GL K n st)) := hp
    have hr_16 := hp
    subst hr_16
    refine lv_goto (tgt := 28) hxR hbR dX0_firstOf_19 (by decide) ?_
    have hC : feastC n (nI P) = 0 := by
      clear hret hI
      unfold feastC
      try simp only [nI_clamp (n := P) (by omega)]
      repeat' split
      all_goals first | rfl | (exfalso; omega) | contradiction | (exfalso; simp_all; done) | simp_all
    have erf : bumpR rf (feastC n (nI P)) = rf := by rw [hC]; exact bump_0 _
    have hI := wI_w (ws' := xW E ad iv ch rd tp (bumpR rf (feastC n (nI P))) hd (adn 10) tr (adg 8) dy im ++ (gW E adg (va_up ivg 5 (nI ((GL K n st).length))) (wrL grg 0 (GL K n st)) (wrL pag 0 ((GL K n st).map pairN)) mo2_12 sg2_12 (some (adn 10)) ++ (tW E adn ivn hrn csn (sK K)))) (by rw [erf]; try rfl) hI
    exact hret (mo2_12, sg2_12, nI ((GL K n st).length), wrL grg 0 (GL K n st), wrL pag 0 ((GL K n st).map pairN), some (adn 10)) (nI (firstL P (GL K n st))) _ _ 0 0 _ _ dX0_firstOf_28 hI (by show (nI (firstL P (GL K n st))) = gd (feastC n (nI P)) (nI (firstL (nI P).toNatClampNeg (GL K n st))) (feastC n (nI P)); rw [hC]; first | rfl | (simp only [nI_clamp (n := P) (by omega)]; rfl) | (simp only [gd_0, nI_clamp (n := P) (by omega)]; split <;> first | rfl | contradiction)) (Nat.le_of_ble_eq_true rfl) (Nat.le_of_ble_eq_true rfl) rfl
  · skip
    have c_5 : ¬ (0 ≤ Int32.toInt x ∧ Int32.toInt x < ((2 ^ n : Nat) : Int)) := of_decide_eq_false c_5
    refine lv_if_eq (tgt := 22) hxR hbR dX0_firstOf_8 (by decide) (fun _ => ?_) (fun c => absurd c (by decide))
    refine lv_aload_n hxR hbR dX0_firstOf_22 rfl (lv_at hl 0 rfl) ?_
    refine lv_bipush (v := (-2)) hxR hbR dX0_firstOf_23 (by decide) ?_
    refine kVI (n := 1) (As := [.int (-2)]) (rest := []) (fun w => w ++ (gW E adg ivg grg pag mog sgg tng ++ (tW E adn ivn hrn csn (sK K)))) hxR hbR hmlR hts hown hK hA hl.1 (isCtx.suf _) hI (c0_no l E ad iv ch rd tp rf hd (adn 10) tr (adg 8) dy im (-2) 2 (by decide) (by decide)) (lw_V q396 q398 qs2 q81 q399) ⟨rfl, by decide +kernel⟩ 8 0 rfl rfl xW_o rfl (Nat.le_of_ble_eq_true rfl) (Nat.le_of_ble_eq_true rfl) ⟨Nat.le_of_ble_eq_true rfl, Nat.le_of_ble_eq_true rfl⟩ (Nat.le_of_ble_eq_true rfl) dX0_firstOf_25 (fun r_25 u H locs hp hI hz => ?_)
    have hI : wI E AR sR H locs (xW E ad iv ch rd tp (va_up rf 2 (rf 2 + 1)) hd (adn 10) tr (adg 8) dy im ++ (gW E adg ivg grg pag mog sgg tng ++ (tW E adn ivn hrn csn (sK K)))) := hI
    have hp : r_25 = (-2) := hp
    have hr_25 := hp
    subst hr_25
    have hC : feastC n x = (-2) := by
      clear hret hI
      unfold feastC
      repeat' split
      all_goals first | rfl | (exfalso; omega) | contradiction | (exfalso; simp_all; done) | simp_all
    have erf : bumpR rf (feastC n x) = va_up rf 2 (rf 2 + 1) := by rw [hC]; exact bump_2 _
    have hI := wI_w (ws' := xW E ad iv ch rd tp (bumpR rf (feastC n x)) hd (adn 10) tr (adg 8) dy im ++ (gW E adg (va_up ivg 5 (ivg 5)) grg pag mog sgg tng ++ (tW E adn ivn hrn csn (sK K)))) (by rw [erf, va_up_id (f := ivg) (k := 5) (v := ivg 5) rfl]; try rfl) hI
    exact hret (mog, sgg, ivg 5, grg, pag, tng) (-2) _ _ 0 0 _ _ dX0_firstOf_28 hI (by show (-2) = gd (feastC n x) (nI (firstL x.toNatClampNeg (GL K n st))) (feastC n x); rw [hC]; first | rfl | (simp only [gd_0]; split <;> first | rfl | contradiction)) (Nat.le_of_ble_eq_true rfl) (Nat.le_of_ble_eq_true rfl) rfl

theorem c0_most (l : Launch) (E : En) (ad : Nat → Nat) (iv : Nat → Int32) (ch : Nat → Int32) (rd : Nat → Int32) (tp : Nat → Int32) (rf : Nat → Int32) (hd : Nat → Option Nat) (tr : Nat) (dy : Nat) (im : Option Nat) (adg : Nat → Nat) (ivg : Nat → Int32) (grg : Nat → Int32) (pag : Nat → Int32) (mog : Nat → Int32) (sgg : Nat → Int32) (tng : Option Nat) (adn : Nat → Nat) (ivn : Nat → Int32) (hrn : Nat → Int32) (csn : Nat → Int32) (K : Nat → Nat → Int32) (n st : Nat) (x : Int32) (hn : ivn 3 = nI n) (hst : ivn 4 = nI st) (hn7 : n ≤ 7) (hs2 : 2 ≤ st) (hs4 : st ≤ 4) (hsym : kSym K n) : CtI l E yX0_most cX0_most 2 .int 15 0 0 [.ref (ad 11), .int x] (xW E ad iv ch rd tp rf hd (adn 10) tr (adg 8) dy im ++ (gW E adg ivg grg pag mog sgg tng ++ (tW E adn ivn hrn csn (sK K)))) (fun (r : Int32) (u : (Nat → Int32) × (Nat → Int32) × Int32 × (Nat → Int32) × (Nat → Int32) × (Option Nat)) => r = gd (feastC n x) (nI (mostV (GL K n st) x.toNatClampNeg)) (feastC n x)) (fun (u : (Nat → Int32) × (Nat → Int32) × Int32 × (Nat → Int32) × (Nat → Int32) × (Option Nat)) => xW E ad iv ch rd tp (bumpR rf (feastC n x)) hd (adn 10) tr (adg 8) dy im ++ (gW E adg (va_up ivg 5 u.2.2.1) u.2.2.2.1 u.2.2.2.2.1 u.1 u.2.1 u.2.2.2.2.2 ++ (tW E adn ivn hrn csn (sK K)))) := by
  have h28 : 2 ^ n ≤ 2 ^ 7 := Nat.pow_le_pow_right (by decide) hn7
  refine CtI.of (by decide +kernel) (Nat.le_of_ble_eq_true rfl) ?_
  intro pR eR sR mR aR bR tR cR AR ls QR hxR hbR hmlR hts hown hlk hnm hA hK hI hl hret
  have hl : lv_has ls 2 [(0, .ref (ad 11)), (1, .int x)] := hl
  refine lv_aload_n hxR hbR dX0_most_0 rfl (lv_at hl 0 rfl) ?_
  refine r_get hxR hbR hts hown hK hI okX0 (ci := 0) rfl 8 (he_l xW_o) 0 (by decide) q263 rfl (v := .ref (adn 10)) rfl dX0_most_1 ?_
  refine lv_iload_n hxR hbR dX0_most_4 rfl (lv_at hl 1 rfl) ?_
  have hI := wI_w app2 hI
  refine kVI (n := 1) (As := [.int x]) (rest := []) (fun w => (xW E ad iv ch rd tp rf hd (adn 10) tr (adg 8) dy im ++ (gW E adg ivg grg pag mog sgg tng)) ++ w) hxR hbR hmlR hts hown hK hA hl.1 (isCtx.pre _) hI (c1_isSet l E adn ivn hrn csn K n x hn (by omega)) (lw_V q1168 q1169 q1170 q82 q1171) ⟨rfl, by decide +kernel⟩ 0 1 rfl rfl tW_o rfl (Nat.le_of_ble_eq_true rfl) (Nat.le_of_ble_eq_true rfl) ⟨Nat.le_of_ble_eq_true rfl, Nat.le_of_ble_eq_true rfl⟩ (Nat.le_of_ble_eq_true rfl) dX0_most_5 (fun r_5 u H locs hp hI hz => ?_)
  have hI := wI_w app2.symm hI
  have hI : wI E AR sR H locs (xW E ad iv ch rd tp rf hd (adn 10) tr (adg 8) dy im ++ (gW E adg ivg grg pag mog sgg tng ++ (tW E adn ivn hrn csn (sK K)))) := hI
  have hp : r_5 = b2i (decide (0 ≤ x.toInt ∧ x.toInt < ((2 ^ n : Nat) : Int))) := hp
  have hr_5 := hp
  rcases b2i_cases hr_5 with ⟨c_5, rfl⟩ | ⟨c_5, rfl⟩
  · skip
    have c_5 : 0 ≤ Int32.toInt x ∧ Int32.toInt x < ((2 ^ n : Nat) : Int) := of_decide_eq_true c_5
    obtain ⟨P, hP, rfl⟩ := nat_of c_5 (by omega)
    have tP : (nI P).toInt = (P : Int) := nI_toInt (by omega)
    refine lv_if_eq (tgt := 22) hxR hbR dX0_most_8 (by decide) (fun c => absurd c (by decide)) (fun _ => ?_)
    refine lv_aload_n hxR hbR dX0_most_11 rfl (lv_at hl 0 rfl) ?_
    refine kVT (n := 0) (As := []) (rest := []) (fun w => w) hxR hbR hmlR hts hown hK hA hl.1 isCtx.id hI (c0_groups l E ad iv ch rd tp rf hd tr dy im adg ivg grg pag mog sgg tng adn ivn hrn csn K n st hn hst (by first | omega | with_reducible assumption) (by first | omega | with_reducible assumption) (by first | omega | with_reducible assumption) (by first | omega | with_reducible assumption)) (lw_V q626 q628 qs5 q81 q629) ⟨rfl, by decide +kernel⟩ 8 0 rfl rfl (he_l xW_o) rfl (Nat.le_of_ble_eq_true rfl) (Nat.le_of_ble_eq_true rfl) ⟨Nat.le_of_ble_eq_true rfl, Nat.le_of_ble_eq_true rfl⟩ (Nat.le_of_ble_eq_true rfl) dX0_most_12 (fun u H locs hp hI hz => ?_)
    obtain ⟨mo2_12, sg2_12⟩ := u
    have hI : wI E AR sR H locs (xW E ad iv ch rd tp rf hd (adn 10) tr (adg 8) dy im ++ (gW E adg (va_up ivg 5 (nI ((GL K n st).length))) (wrL grg 0 (GL K n st)) (wrL pag 0 ((GL K n st).map pairN)) mo2_12 sg2_12 (some (adn 10)) ++ (tW E adn ivn hrn csn (sK K)))) := hI
    have hp : (∀ Z, Z < 2 ^ n → mo2_12 Z = nI (mostV (GL K n st) Z)) ∧ (∀ p, p < n → sg2_12 p = nI (strS K p n)) := hp
    obtain ⟨hmo_12, hsg_12⟩ := hp
    have hLg : gL (wrL grg 0 (GL K n st)) (GL K n st) := gL_wr hn7 hs2 hs4
    have hl35 := hLg.2.1
    refine lv_iload_n hxR hbR dX0_most_15 rfl (lv_at hl 1 rfl) ?_
    refine kVI (n := 1) (As := [.int (nI P)]) (rest := []) (fun w => (xW E ad iv ch rd tp rf hd (adn 10) tr (adg 8) dy im) ++ (w ++ (tW E adn ivn hrn csn (sK K)))) hxR hbR hmlR hts hown hK hA hl.1 (isCtx.mk _ _) hI (c2_most l E adg (va_up ivg 5 (nI ((GL K n st).length))) (wrL grg 0 (GL K n st)) (wrL pag 0 ((GL K n st).map pairN)) mo2_12 sg2_12 (some (adn 10)) (GL K n st) n P (by first | omega | with_reducible assumption) hmo_12 (by first | omega | with_reducible assumption)) (lw_V q1194 q1195 q1196 q83 q1197) ⟨rfl, by decide +kernel⟩ 0 2 rfl rfl gW_o rfl (Nat.le_of_ble_eq_true rfl) (Nat.le_of_ble_eq_true rfl) ⟨Nat.le_of_ble_eq_true rfl, Nat.le_of_ble_eq_true rfl⟩ (Nat.le_of_ble_eq_true rfl) dX0_most_16 (fun r_16 u H locs hp hI hz => ?_)
    have hI : wI E AR sR H locs (xW E ad iv ch rd tp rf hd (adn 10) tr (adg 8) dy im ++ (gW E adg (va_up ivg 5 (nI ((GL K n st).length))) (wrL grg 0 (GL K n st)) (wrL pag 0 ((GL K n st).map pairN)) mo2_12 sg2_12 (some (adn 10)) ++ (tW E adn ivn hrn csn (sK K)))) := hI
    have hp : r_16 = nI (mostV (GL K n st) P) := hp
    have hr_16 := hp
    subst hr_16
    refine lv_goto (tgt := 28) hxR hbR dX0_most_19 (by decide) ?_
    have hC : feastC n (nI P) = 0 := by
      clear hret hI
      unfold feastC
      try simp only [nI_clamp (n := P) (by omega)]
      repeat' split
      all_goals first | rfl | (exfalso; omega) | contradiction | (exfalso; simp_all; done) | simp_all
    have erf : bumpR rf (feastC n (nI P)) = rf := by rw [hC]; exact bump_0 _
    have hI := wI_w (ws' := xW E ad iv ch rd tp (bumpR rf (feastC n (nI P))) hd (adn 10) tr (adg 8) dy im ++ (gW E adg (va_up ivg 5 (nI ((GL K n st).length))) (wrL grg 0 (GL K n st)) (wrL pag 0 ((GL K n st).map pairN)) mo2_12 sg2_12 (some (adn 10)) ++ (tW E adn ivn hrn csn (sK K)))) (by rw [erf]; try rfl) hI
    exact hret (mo2_12, sg2_12, nI ((GL K n st).length), wrL grg 0 (GL K n st), wrL pag 0 ((GL K n st).map pairN), some (adn 10)) (nI (mostV (GL K n st) P)) _ _ 0 0 _ _ dX0_most_28 hI (by show (nI (mostV (GL K n st) P)) = gd (feastC n (nI P)) (nI (mostV (GL K n st) (nI P).toNatClampNeg)) (feastC n (nI P)); rw [hC]; first | rfl | (simp only [nI_clamp (n := P) (by omega)]; rfl) | (simp only [gd_0, nI_clamp (n := P) (by omega)]; split <;> first | rfl | contradiction)) (Nat.le_of_ble_eq_true rfl) (Nat.le_of_ble_eq_true rfl) rfl
  · skip
    have c_5 : ¬ (0 ≤ Int32.toInt x ∧ Int32.toInt x < ((2 ^ n : Nat) : Int)) := of_decide_eq_false c_5
    refine lv_if_eq (tgt := 22) hxR hbR dX0_most_8 (by decide) (fun _ => ?_) (fun c => absurd c (by decide))
    refine lv_aload_n hxR hbR dX0_most_22 rfl (lv_at hl 0 rfl) ?_
    refine lv_bipush (v := (-2)) hxR hbR dX0_most_23 (by decide) ?_
    refine kVI (n := 1) (As := [.int (-2)]) (rest := []) (fun w => w ++ (gW E adg ivg grg pag mog sgg tng ++ (tW E adn ivn hrn csn (sK K)))) hxR hbR hmlR hts hown hK hA hl.1 (isCtx.suf _) hI (c0_no l E ad iv ch rd tp rf hd (adn 10) tr (adg 8) dy im (-2) 2 (by decide) (by decide)) (lw_V q396 q398 qs2 q81 q399) ⟨rfl, by decide +kernel⟩ 8 0 rfl rfl xW_o rfl (Nat.le_of_ble_eq_true rfl) (Nat.le_of_ble_eq_true rfl) ⟨Nat.le_of_ble_eq_true rfl, Nat.le_of_ble_eq_true rfl⟩ (Nat.le_of_ble_eq_true rfl) dX0_most_25 (fun r_25 u H locs hp hI hz => ?_)
    have hI : wI E AR sR H locs (xW E ad iv ch rd tp (va_up rf 2 (rf 2 + 1)) hd (adn 10) tr (adg 8) dy im ++ (gW E adg ivg grg pag mog sgg tng ++ (tW E adn ivn hrn csn (sK K)))) := hI
    have hp : r_25 = (-2) := hp
    have hr_25 := hp
    subst hr_25
    have hC : feastC n x = (-2) := by
      clear hret hI
      unfold feastC
      repeat' split
      all_goals first | rfl | (exfalso; omega) | contradiction | (exfalso; simp_all; done) | simp_all
    have erf : bumpR rf (feastC n x) = va_up rf 2 (rf 2 + 1) := by rw [hC]; exact bump_2 _
    have hI := wI_w (ws' := xW E ad iv ch rd tp (bumpR rf (feastC n x)) hd (adn 10) tr (adg 8) dy im ++ (gW E adg (va_up ivg 5 (ivg 5)) grg pag mog sgg tng ++ (tW E adn ivn hrn csn (sK K)))) (by rw [erf, va_up_id (f := ivg) (k := 5) (v := ivg 5) rfl]; try rfl) hI
    exact hret (mog, sgg, ivg 5, grg, pag, tng) (-2) _ _ 0 0 _ _ dX0_most_28 hI (by show (-2) = gd (feastC n x) (nI (mostV (GL K n st) x.toNatClampNeg)) (feastC n x); rw [hC]; first | rfl | (simp only [gd_0]; split <;> first | rfl | contradiction)) (Nat.le_of_ble_eq_true rfl) (Nat.le_of_ble_eq_true rfl) rfl

theorem c0_meet (l : Launch) (E : En) (ad : Nat → Nat) (iv : Nat → Int32) (ch : Nat → Int32) (rd : Nat → Int32) (tp : Nat → Int32) (rf : Nat → Int32) (hd : Nat → Option Nat) (tr : Nat) (gr : Nat) (dy : Nat) (im : Option Nat) (adn : Nat → Nat) (ivn : Nat → Int32) (hrn : Nat → Int32) (csn : Nat → Int32) (K : Nat → Nat → Int32) (n : Nat) (x : Int32) (hn : ivn 3 = nI n) (hn7 : n ≤ 7) : CtI l E yX0_meet cX0_meet 2 .int 4 0 0 [.ref (ad 11), .int x] (xW E ad iv ch rd tp rf hd (adn 10) tr gr dy im ++ (tW E adn ivn hrn csn (sK K))) (fun (r : Int32) (u : Unit) => r = gd (feastC n x) (nI (mC K x.toNatClampNeg n)) (feastC n x)) (fun (u : Unit) => xW E ad iv ch rd tp (bumpR rf (feastC n x)) hd (adn 10) tr gr dy im ++ (tW E adn ivn hrn csn (sK (gd (feastC n x) (meetK K x.toNatClampNeg n) K)))) := by
  have h28 : 2 ^ n ≤ 2 ^ 7 := Nat.pow_le_pow_right (by decide) hn7
  refine CtI.of (by decide +kernel) (Nat.le_of_ble_eq_true rfl) ?_
  intro pR eR sR mR aR bR tR cR AR ls QR hxR hbR hmlR hts hown hlk hnm hA hK hI hl hret
  have hl : lv_has ls 2 [(0, .ref (ad 11)), (1, .int x)] := hl
  refine lv_aload_n hxR hbR dX0_meet_0 rfl (lv_at hl 0 rfl) ?_
  refine r_get hxR hbR hts hown hK hI okX0 (ci := 0) rfl 8 (he_l xW_o) 0 (by decide) q263 rfl (v := .ref (adn 10)) rfl dX0_meet_1 ?_
  refine lv_iload_n hxR hbR dX0_meet_4 rfl (lv_at hl 1 rfl) ?_
  refine kVI (n := 1) (As := [.int x]) (rest := []) (fun w => (xW E ad iv ch rd tp rf hd (adn 10) tr gr dy im) ++ w) hxR hbR hmlR hts hown hK hA hl.1 (isCtx.pre _) hI (c1_isSet l E adn ivn hrn csn K n x hn (by omega)) (lw_V q1168 q1169 q1170 q82 q1171) ⟨rfl, by decide +kernel⟩ 0 1 rfl rfl tW_o rfl (Nat.le_of_ble_eq_true rfl) (Nat.le_of_ble_eq_true rfl) ⟨Nat.le_of_ble_eq_true rfl, Nat.le_of_ble_eq_true rfl⟩ (Nat.le_of_ble_eq_true rfl) dX0_meet_5 (fun r_5 u H locs hp hI hz => ?_)
  have hI : wI E AR sR H locs (xW E ad iv ch rd tp rf hd (adn 10) tr gr dy im ++ (tW E adn ivn hrn csn (sK K))) := hI
  have hp : r_5 = b2i (decide (0 ≤ x.toInt ∧ x.toInt < ((2 ^ n : Nat) : Int))) := hp
  have hr_5 := hp
  rcases b2i_cases hr_5 with ⟨c_5, rfl⟩ | ⟨c_5, rfl⟩
  · skip
    have c_5 : 0 ≤ Int32.toInt x ∧ Int32.toInt x < ((2 ^ n : Nat) : Int) := of_decide_eq_true c_5
    obtain ⟨P, hP, rfl⟩ := nat_of c_5 (by omega)
    have tP : (nI P).toInt = (P : Int) := nI_toInt (by omega)
    refine lv_if_eq (tgt := 22) hxR hbR dX0_meet_8 (by decide) (fun c => absurd c (by decide)) (fun _ => ?_)
    refine lv_aload_n hxR hbR dX0_meet_11 rfl (lv_at hl 0 rfl) ?_
    refine r_get hxR hbR hts hown hK hI okX0 (ci := 0) rfl 8 (he_l xW_o) 0 (by decide) q263 rfl (v := .ref (adn 10)) rfl dX0_meet_12 ?_
    refine lv_iload_n hxR hbR dX0_meet_15 rfl (lv_at hl 1 rfl) ?_
    refine kVI (n := 1) (As := [.int (nI P)]) (rest := []) (fun w => (xW E ad iv ch rd tp rf hd (adn 10) tr gr dy im) ++ w) hxR hbR hmlR hts hown hK hA hl.1 (isCtx.pre _) hI (c1_meets l E adn ivn hrn csn K n P hn (by first | omega | with_reducible assumption) (by first | omega | with_reducible assumption)) (lw_V q1320 q1150 q1151 q82 q1152) ⟨rfl, by decide +kernel⟩ 0 1 rfl rfl tW_o rfl (Nat.le_of_ble_eq_true rfl) (Nat.le_of_ble_eq_true rfl) ⟨Nat.le_of_ble_eq_true rfl, Nat.le_of_ble_eq_true rfl⟩ (Nat.le_of_ble_eq_true rfl) dX0_meet_16 (fun r_16 u H locs hp hI hz => ?_)
    have hI : wI E AR sR H locs (xW E ad iv ch rd tp rf hd (adn 10) tr gr dy im ++ (tW E adn ivn hrn csn (sK (meetK K P n)))) := hI
    have hp : r_16 = nI (mC K P n) := hp
    have hr_16 := hp
    subst hr_16
    refine lv_goto (tgt := 28) hxR hbR dX0_meet_19 (by decide) ?_
    have hC : feastC n (nI P) = 0 := by
      clear hret hI
      unfold feastC
      try simp only [nI_clamp (n := P) (by omega)]
      repeat' split
      all_goals first | rfl | (exfalso; omega) | contradiction | (exfalso; simp_all; done) | simp_all
    have erf : bumpR rf (feastC n (nI P)) = rf := by rw [hC]; exact bump_0 _
    have eSn : sK (gd (feastC n (nI P)) (meetK K (nI P).toNatClampNeg n) K) = sK (meetK K P n) := by rw [hC]; first | rfl | (simp only [nI_clamp (n := P) (by omega)]; rfl) | (simp only [gd_0, nI_clamp (n := P) (by omega)]; split <;> first | rfl | contradiction) | (exfalso; omega)
    have hI := wI_w (ws' := xW E ad iv ch rd tp (bumpR rf (feastC n (nI P))) hd (adn 10) tr gr dy im ++ (tW E adn ivn hrn csn (sK (gd (feastC n (nI P)) (meetK K (nI P).toNatClampNeg n) K)))) (by rw [erf, eSn]; try rfl) hI
    exact hret () (nI (mC K P n)) _ _ 0 0 _ _ dX0_meet_28 hI (by show (nI (mC K P n)) = gd (feastC n (nI P)) (nI (mC K (nI P).toNatClampNeg n)) (feastC n (nI P)); rw [hC]; first | rfl | (simp only [nI_clamp (n := P) (by omega)]; rfl) | (simp only [gd_0, nI_clamp (n := P) (by omega)]; split <;> first | rfl | contradiction)) (Nat.le_of_ble_eq_true rfl) (Nat.le_of_ble_eq_true rfl) rfl
  · skip
    have c_5 : ¬ (0 ≤ Int32.toInt x ∧ Int32.toInt x < ((2 ^ n : Nat) : Int)) := of_decide_eq_false c_5
    refine lv_if_eq (tgt := 22) hxR hbR dX0_meet_8 (by decide) (fun _ => ?_) (fun c => absurd c (by decide))
    refine lv_aload_n hxR hbR dX0_meet_22 rfl (lv_at hl 0 rfl) ?_
    refine lv_bipush (v := (-2)) hxR hbR dX0_meet_23 (by decide) ?_
    refine kVI (n := 1) (As := [.int (-2)]) (rest := []) (fun w => w ++ (tW E adn ivn hrn csn (sK K))) hxR hbR hmlR hts hown hK hA hl.1 (isCtx.suf _) hI (c0_no l E ad iv ch rd tp rf hd (adn 10) tr gr dy im (-2) 2 (by decide) (by decide)) (lw_V q396 q398 qs2 q81 q399) ⟨rfl, by decide +kernel⟩ 8 0 rfl rfl xW_o rfl (Nat.le_of_ble_eq_true rfl) (Nat.le_of_ble_eq_true rfl) ⟨Nat.le_of_ble_eq_true rfl, Nat.le_of_ble_eq_true rfl⟩ (Nat.le_of_ble_eq_true rfl) dX0_meet_25 (fun r_25 u H locs hp hI hz => ?_)
    have hI : wI E AR sR H locs (xW E ad iv ch rd tp (va_up rf 2 (rf 2 + 1)) hd (adn 10) tr gr dy im ++ (tW E adn ivn hrn csn (sK K))) := hI
    have hp : r_25 = (-2) := hp
    have hr_25 := hp
    subst hr_25
    have hC : feastC n x = (-2) := by
      clear hret hI
      unfold feastC
      repeat' split
      all_goals first | rfl | (exfalso; omega) | contradiction | (exfalso; simp_all; done) | simp_all
    have erf : bumpR rf (feastC n x) = va_up rf 2 (rf 2 + 1) := by rw [hC]; exact bump_2 _
    have eSn : sK (gd (feastC n x) (meetK K x.toNatClampNeg n) K) = sK K := by rw [hC]; first | rfl | (simp only [gd_0]; split <;> first | rfl | contradiction) | (exfalso; omega)
    have hI := wI_w (ws' := xW E ad iv ch rd tp (bumpR rf (feastC n x)) hd (adn 10) tr gr dy im ++ (tW E adn ivn hrn csn (sK (gd (feastC n x) (meetK K x.toNatClampNeg n) K)))) (by rw [erf, eSn]; try rfl) hI
    exact hret () (-2) _ _ 0 0 _ _ dX0_meet_28 hI (by show (-2) = gd (feastC n x) (nI (mC K x.toNatClampNeg n)) (feastC n x); rw [hC]; first | rfl | (simp only [gd_0]; split <;> first | rfl | contradiction)) (Nat.le_of_ble_eq_true rfl) (Nat.le_of_ble_eq_true rfl) rfl
