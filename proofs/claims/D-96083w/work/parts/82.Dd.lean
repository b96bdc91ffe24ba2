theorem va_up_up {f : Nat → Int32} {k : Nat} {a b : Int32} : va_up (va_up f k a) k b = va_up f k b := by
  funext j; unfold va_up; split <;> rfl
theorem nd_z (g : Nat) : nd g 0 = g := by
  apply Nat.eq_of_testBit_eq; intro i
  rw [nd_bit, Nat.zero_testBit]; simp
theorem lsG_none {L : List Nat} {com : Nat → Nat} {cost hour : Nat → Int32} {n k lf : Nat} : ∀ (M : List Nat) (b : Int32), (∀ g ∈ M, ¬ nd g lf = 0) → M.foldl (lsG L com cost hour n k lf) b = b
  | [], _, _ => rfl
  | g :: t, b, h => by
    rw [List.foldl_cons, lsG_n (h g List.mem_cons_self)]
    exact lsG_none t b (fun x hx => h x (List.mem_cons_of_mem _ hx))
theorem sub_bit {g y p : Nat} (h : nd g y = 0) (hp : g.testBit p = true) : y.testBit p = true := by
  have := congrArg (fun x => x.testBit p) h
  simp only [nd_bit, Nat.zero_testBit, hp, Bool.true_and] at this
  cases e : y.testBit p
  · rw [e] at this; cases this
  · rfl

theorem c0_least_2 (l : Launch) (E : En) (ad : Nat → Nat) (iv : Nat → Int32) (ch : Nat → Int32) (rd : Nat → Int32) (tp : Nat → Int32) (rf : Nat → Int32) (hd : Nat → Option Nat) (tr : Nat) (dy : Nat) (im : Option Nat) (adg : Nat → Nat) (ivg : Nat → Int32) (grg : Nat → Int32) (pag : Nat → Int32) (mog : Nat → Int32) (sgg : Nat → Int32) (tng : Option Nat) (adn : Nat → Nat) (ivn : Nat → Int32) (hrn : Nat → Int32) (csn : Nat → Int32) (add : Nat → Nat) (ivd : Nat → Int32) (odd : Nat → Int32) (cod : Nat → Int32) (wtd : Nat → Int32) (tnd : Option Nat) (gnd : Option Nat) (K : Nat → Nat → Int32) (n st k y : Nat) (hn : ivn 3 = nI n) (hn7 : n ≤ 7) (hc : ivg 5 = nI (GL K n st).length) (hL : gL grg (GL K n st)) (hcost : (∀ p, p < n → ∃ c, c ≤ 9 ∧ csn p = nI c)) (heve : (∀ p, p < n → y.testBit p = true → ∃ x, x ≤ 24 ∧ hrn p = nI x)) (hk : k ≤ n) (hy0 : k = 0 → y = 0) (hy : y < 2 ^ n) (hm7 : bitsN y 8 + (n - k) ≤ 7) (hord : (∀ j, j < n → odd j = nI ((comL hrn n).getD j 0))) (hcom : (∀ j, j < n → (comL hrn n).getD j 0 < n)) (hlate : (0 < k → ∃ h, h ≤ 24 ∧ hrn ((comL hrn n).getD (k - 1) 0) = nI h ∧ ∀ p, p < n → y.testBit p = true → ∃ x, x ≤ h ∧ hrn p = nI x)) (hpB : (k < n → tbR K csn hrn n st ch rd (k + 1) (y ||| 2 ^ (comL hrn n).getD k 0))) (hpG : (∀ g ∈ GL K n st, nd g y = 0 → tbR K csn hrn n st ch rd k (nd y g))) : CtV l E yX0_least_2 cX0_least_2 9 2 0 0 [.ref (ad 11), .int (nI k), .int (nI y), .ref (add 0)] (xW E ad iv ch rd tp rf hd (adn 10) tr (adg 8) dy im ++ (gW E adg ivg grg pag mog sgg tng ++ (tW E adn ivn hrn csn (sK K) ++ (dW E add ivd odd cod wtd tnd gnd)))) (fun (u : Nat × Nat) => pkR (lsV (GL K n st) (fun j => (comL hrn n).getD j 0) csn hrn n k y) u.1 u.2 (bitsN y 8 + (n - k))) (fun (u : Nat × Nat) => xW E ad iv (va_up ch (128 * k + y) (nI u.1)) (va_up rd (128 * k + y) (nI u.2)) tp rf hd (adn 10) tr (adg 8) dy im ++ (gW E adg ivg grg pag mog sgg tng ++ (tW E adn ivn hrn csn (sK K) ++ (dW E add ivd odd cod wtd tnd gnd)))) := by
  have h27 : 2 ^ n ≤ 2 ^ 7 := Nat.pow_le_pow_right (by decide) hn7
  have hl35 := hL.2.1
  have hVe := lsV_eq (com := (fun j => (comL hrn n).getD j 0)) (cost := csn) (hour := hrn) (k := k) (lf := y) (n := n) (fun g hg => ⟨by have := (hL.2.2 g hg).1; omega, (hL.2.2 g hg).2⟩) hk
  refine CtV.of (by decide +kernel) (Nat.le_of_ble_eq_true rfl) ?_
  intro pR eR sR mR aR bR tR cR AR ls QR hxR hbR hmlR hts hown hlk hnm hA hK hI hl hret
  have hl : lv_has ls 9 [(0, .ref (ad 11)), (1, .int (nI k)), (2, .int (nI y)), (3, .ref (add 0))] := hl
  refine lv_sipush (v := 128) hxR hbR dX0_least_2_0 (by decide) ?_
  refine lv_iload_n hxR hbR dX0_least_2_3 rfl (lv_at hl 1 rfl) ?_
  refine lv_imul hxR hbR dX0_least_2_4 ?_
  refine lv_as (y := nI (128 * k)) (pk_mul 128 k) ?_
  refine lv_iload_n hxR hbR dX0_least_2_5 rfl (lv_at hl 2 rfl) ?_
  refine lv_iadd hxR hbR dX0_least_2_6 ?_
  refine lv_as (y := nI ((128 * k) + y)) (nI_add (128 * k) y) ?_
  refine lv_istore (lv' := [(4, .int (nI ((128 * k) + y))), (0, .ref (ad 11)), (1, .int (nI k)), (2, .int (nI y)), (3, .ref (add 0))]) hxR hbR dX0_least_2_7 hl (by decide) rfl (fun ls hl => ?_)
  refine lv_iload_n hxR hbR dX0_least_2_9 rfl (lv_at hl 2 rfl) ?_
  refine lv_aload_n hxR hbR dX0_least_2_10 rfl (lv_at hl 1 rfl) ?_
  refine r_get hxR hbR hts hown hK hI okX0 (ci := 0) rfl 8 (he_l xW_o) 0 (by decide) q263 rfl (v := .ref (adn 10)) rfl dX0_least_2_11 ?_
  refine r_get hxR hbR hts hown hK hI okX1 (ci := 1) rfl (14 + (5 + 0)) (he_r (Nat.le_of_ble_eq_true rfl) (Nat.le_of_ble_eq_true rfl) (he_r (Nat.le_of_ble_eq_true rfl) (Nat.le_of_ble_eq_true rfl) (he_l tW_o))) 3 (by decide) q144 rfl (v := .int (nI n)) (al hn) dX0_least_2_14 ?_
  refine lv_icmp_ne (tgt := 45) hxR hbR dX0_least_2_17 (by decide) (fun c_17 => ?_) (fun c_17 => ?_)
  · skip
    have c_17 : ¬ k = n := fun zz => c_17 ((n_eq (a := k) (b := n) (by omega) (by omega)).mpr zz)
    have hck := hcom k (by omega)
    obtain ⟨c0, r0, ea0, eb0, hp0⟩ := hpB (by omega)
    have hyy := or_lt (n := n) hy (show 2 ^ (comL hrn n).getD k 0 < 2 ^ n from Nat.pow_lt_pow_right (by decide) (hcom k (by omega)))
    have hp0 : pkR (lsB (GL K n st) (fun j => (comL hrn n).getD j 0) csn hrn n k y) c0 r0 (bitsN y 8 + (n - k)) := by rw [lsB, if_neg (by omega)]; exact ⟨hp0.1, Nat.le_trans hp0.2.1 (by have := bits_or y ((comL hrn n).getD k 0) 8; omega), Nat.le_trans hp0.2.2 (by have := bits_or y ((comL hrn n).getD k 0) 8; omega)⟩
    refine lv_sipush (v := 128) hxR hbR dX0_least_2_45 (by decide) ?_
    refine lv_iload_n hxR hbR dX0_least_2_48 rfl (lv_at hl 2 rfl) ?_
    refine lv_iconst (v := 1) hxR hbR dX0_least_2_49 (by decide) ?_
    refine lv_iadd hxR hbR dX0_least_2_50 ?_
    refine lv_as (y := nI (k + 1)) (nI_add k 1) ?_
    refine lv_imul hxR hbR dX0_least_2_51 ?_
    refine lv_as (y := nI (128 * (k + 1))) (pk_mul 128 (k + 1)) ?_
    refine lv_iload_n hxR hbR dX0_least_2_52 rfl (lv_at hl 3 rfl) ?_
    refine lv_iconst (v := 1) hxR hbR dX0_least_2_53 (by decide) ?_
    refine lv_aload_n hxR hbR dX0_least_2_54 rfl (lv_at hl 4 rfl) ?_
    refine lv_iload_n hxR hbR dX0_least_2_55 rfl (lv_at hl 2 rfl) ?_
    refine r_iald hxR hbR hK hI (14 + (5 + (4 + 1))) (n := 7) (J := k) (f := odd) (v := nI ((comL hrn n).getD k 0)) (he_r (Nat.le_of_ble_eq_true rfl) (Nat.le_of_ble_eq_true rfl) (he_r (Nat.le_of_ble_eq_true rfl) (Nat.le_of_ble_eq_true rfl) (he_r (Nat.le_of_ble_eq_true rfl) (Nat.le_of_ble_eq_true rfl) (dW_g0 rfl)))) (by omega) (by decide) (hord _ (by omega)) dX0_least_2_56 ?_
    refine lv_ishl hxR hbR dX0_least_2_57 ?_
    refine lv_as (y := nI (2 ^ ((comL hrn n).getD k 0))) (nb_shl ((comL hrn n).getD k 0) (by omega)) ?_
    refine lv_ior hxR hbR dX0_least_2_58 ?_
    refine lv_as (y := nI (y ||| (2 ^ ((comL hrn n).getD k 0)))) (nb_or y (2 ^ ((comL hrn n).getD k 0))) ?_
    refine lv_iadd hxR hbR dX0_least_2_59 ?_
    refine lv_as (y := nI ((128 * (k + 1)) + (y ||| (2 ^ ((comL hrn n).getD k 0))))) (nI_add (128 * (k + 1)) (y ||| (2 ^ ((comL hrn n).getD k 0)))) ?_
    refine lv_istore (lv' := [(5, .int (nI ((128 * (k + 1)) + (y ||| (2 ^ ((comL hrn n).getD k 0)))))), (4, .int (nI ((128 * k) + y))), (0, .ref (ad 11)), (1, .int (nI k)), (2, .int (nI y)), (3, .ref (add 0))]) hxR hbR dX0_least_2_60 hl (by decide) rfl (fun ls hl => ?_)
    refine lv_aload_n hxR hbR dX0_least_2_62 rfl (lv_at hl 2 rfl) ?_
    refine r_get hxR hbR hts hown hK hI okX0 (ci := 0) rfl 8 (he_l xW_o) 5 (by decide) q269 rfl (v := .ref (ad 5)) rfl dX0_least_2_63 ?_
    refine lv_iload hxR hbR dX0_least_2_66 (lv_at hl 1 rfl) ?_
    refine lv_aload_n hxR hbR dX0_least_2_68 rfl (lv_at hl 2 rfl) ?_
    refine r_get hxR hbR hts hown hK hI okX0 (ci := 0) rfl 8 (he_l xW_o) 5 (by decide) q269 rfl (v := .ref (ad 5)) rfl dX0_least_2_69 ?_
    refine lv_iload hxR hbR dX0_least_2_72 (lv_at hl 0 rfl) ?_
    refine r_iald hxR hbR hK hI 9 (n := 1024) (J := (128 * (k + 1)) + (y ||| (2 ^ ((comL hrn n).getD k 0)))) (f := ch) (v := nI c0) (he_l (xW_g5 rfl)) (by omega) (by decide) ea0 dX0_least_2_74 ?_
    refine r_iast (ws1 := xW E ad iv (va_up ch ((128 * k) + y) (nI c0)) rd tp rf hd (adn 10) tr (adg 8) dy im ++ (gW E adg ivg grg pag mog sgg tng ++ (tW E adn ivn hrn csn (sK K) ++ (dW E add ivd odd cod wtd tnd gnd)))) hxR hbR hK hI 9 (n := 1024) (J := (128 * k) + y) (f := ch) (he_l (xW_g5 rfl)) (by omega) (by decide) (hw_l (Nat.le_of_ble_eq_true rfl) xW_a5) dX0_least_2_75 (fun H locs hI => ?_)
    refine lv_aload_n hxR hbR dX0_least_2_76 rfl (lv_at hl 2 rfl) ?_
    refine r_get hxR hbR hts hown hK hI okX0 (ci := 0) rfl 8 (he_l xW_o) 6 (by decide) q270 rfl (v := .ref (ad 6)) rfl dX0_least_2_77 ?_
    refine lv_iload hxR hbR dX0_least_2_80 (lv_at hl 1 rfl) ?_
    refine lv_aload_n hxR hbR dX0_least_2_82 rfl (lv_at hl 2 rfl) ?_
    refine r_get hxR hbR hts hown hK hI okX0 (ci := 0) rfl 8 (he_l xW_o) 6 (by decide) q270 rfl (v := .ref (ad 6)) rfl dX0_least_2_83 ?_
    refine lv_iload hxR hbR dX0_least_2_86 (lv_at hl 0 rfl) ?_
    refine r_iald hxR hbR hK hI 10 (n := 1024) (J := (128 * (k + 1)) + (y ||| (2 ^ ((comL hrn n).getD k 0)))) (f := rd) (v := nI r0) (he_l (xW_g6 rfl)) (by omega) (by decide) eb0 dX0_least_2_88 ?_
    refine r_iast (ws1 := xW E ad iv (va_up ch ((128 * k) + y) (nI c0)) (va_up rd ((128 * k) + y) (nI r0)) tp rf hd (adn 10) tr (adg 8) dy im ++ (gW E adg ivg grg pag mog sgg tng ++ (tW E adn ivn hrn csn (sK K) ++ (dW E add ivd odd cod wtd tnd gnd)))) hxR hbR hK hI 10 (n := 1024) (J := (128 * k) + y) (f := rd) (he_l (xW_g6 rfl)) (by omega) (by decide) (hw_l (Nat.le_of_ble_eq_true rfl) xW_a6) dX0_least_2_89 (fun H locs hI => ?_)
    refine lv_iconst (v := 0) hxR hbR dX0_least_2_90 (by decide) ?_
    refine lv_istore (lv' := [(5, .int 0), (4, .int (nI ((128 * k) + y))), (0, .ref (ad 11)), (1, .int (nI k)), (2, .int (nI y)), (3, .ref (add 0))]) hxR hbR dX0_least_2_91 hl (by decide) rfl (fun ls hl => ?_)
    have lp_93 : ∀ (fu : Nat) (i : Nat) (c2 : Nat) (r2 : Nat) (TB : Int32) (chx : Nat → Int32) (rdx : Nat → Int32), (i ≤ (GL K n st).length) → (chx = va_up ch (128 * k + y) (nI c2)) → (rdx = va_up rd (128 * k + y) (nI r2)) → (((GL K n st).drop i).foldl (lsG (GL K n st) (fun j => (comL hrn n).getD j 0) csn hrn n k y) TB = lsV (GL K n st) (fun j => (comL hrn n).getD j 0) csn hrn n k y) → (pkR TB c2 r2 (bitsN y 8 + (n - k))) → (GL K n st).length - i < fu → ∀ (H : Heap) (locs : List Loc), wI E AR sR H locs (xW E ad iv chx rdx tp rf hd (adn 10) tr (adg 8) dy im ++ (gW E adg ivg grg pag mog sgg tng ++ (tW E adn ivn hrn csn (sK K) ++ (dW E add ivd odd cod wtd tnd gnd)))) → ∀ ls : Array Slot, lv_has ls 9 [(0, .ref (ad 11)), (1, .int (nI k)), (2, .int (nI y)), (3, .ref (add 0)), (4, .int (nI ((128 * k) + y))), (5, .int (nI i))] → W pR l eR (rmF 2 0 0) sR mR aR bR tR cR H locs 0 0 QR (F0 mR 93 ls []) := by
      intro fu
      induction fu with
      | zero =>
        intro i c2 r2 TB chx rdx hi hch hrd hfold hpk hfu
        exact absurd hfu (Nat.not_lt_zero _)
      | succ fu ih_93 =>
        intro i c2 r2 TB chx rdx hi hch hrd hfold hpk hfu H locs hI ls hl
        subst hch
        subst hrd
        refine lv_iload hxR hbR dX0_least_2_93 (lv_at hl 5 rfl) ?_
        refine lv_aload_n hxR hbR dX0_least_2_95 rfl (lv_at hl 0 rfl) ?_
        refine r_get hxR hbR hts hown hK hI okX0 (ci := 0) rfl 8 (he_l xW_o) 3 (by decide) q267 rfl (v := .ref (adg 8)) rfl dX0_least_2_96 ?_
        refine r_get hxR hbR hts hown hK hI okX2 (ci := 2) rfl (14 + 0) (he_r (Nat.le_of_ble_eq_true rfl) (Nat.le_of_ble_eq_true rfl) (he_l gW_o)) 5 (by decide) q197 rfl (v := .int (nI ((GL K n st).length))) (al hc) dX0_least_2_99 ?_
        refine lv_icmp_ge (tgt := 248) hxR hbR dX0_least_2_102 (by decide) (fun c_102 => ?_) (fun c_102 => ?_)
        · skip
          have c_102 : ((GL K n st).length) ≤ i := (n_le (a := ((GL K n st).length)) (b := i) (by omega) (by omega)).mp c_102
          have hI : wI E AR sR H locs (xW E ad iv (va_up ch (128 * k + y) (nI c2)) (va_up rd (128 * k + y) (nI r2)) tp rf hd (adn 10) tr (adg 8) dy im ++ (gW E adg ivg grg pag mog sgg tng ++ (tW E adn ivn hrn csn (sK K) ++ (dW E add ivd odd cod wtd tnd gnd)))) := by exact hI
          exact hret (c2, r2) _ _ _ _ _ _ dX0_least_2_248 hI (by show pkR (lsV (GL K n st) (fun j => (comL hrn n).getD j 0) csn hrn n k y) c2 r2 (bitsN y 8 + (n - k)); first | exact (foldl_e3 (by omega) hfold) ▸ hpk | exact ((lsG_none _ _ (fun g hg hz => (hL.2.2 g (List.mem_of_mem_drop hg)).2 (by rw [hy0 (by omega)] at hz; rw [nd_z] at hz; exact hz))).symm.trans hfold) ▸ hpk) (Nat.le_of_ble_eq_true rfl) (Nat.le_of_ble_eq_true rfl)
        · skip
          have c_102 : i < ((GL K n st).length) := Nat.lt_of_not_le (fun zz => c_102 ((n_le (a := ((GL K n st).length)) (b := i) (by omega) (by omega)).mpr zz))
          refine lv_iload_n hxR hbR dX0_least_2_105 rfl (lv_at hl 1 rfl) ?_
          refine lv_if_le (tgt := 248) hxR hbR dX0_least_2_106 (by decide) (fun c_106 => ?_) (fun c_106 => ?_)
          · skip
            have c_106 : k ≤ 0 := (n_le (a := k) (b := 0) (by omega) (by omega)).mp c_106
            have hI : wI E AR sR H locs (xW E ad iv (va_up ch (128 * k + y) (nI c2)) (va_up rd (128 * k + y) (nI r2)) tp rf hd (adn 10) tr (adg 8) dy im ++ (gW E adg ivg grg pag mog sgg tng ++ (tW E adn ivn hrn csn (sK K) ++ (dW E add ivd odd cod wtd tnd gnd)))) := by exact hI
            exact hret (c2, r2) _ _ _ _ _ _ dX0_least_2_248 hI (by show pkR (lsV (GL K n st) (fun j => (comL hrn n).getD j 0) csn hrn n k y) c2 r2 (bitsN y 8 + (n - k)); first | exact (foldl_e3 (by omega) hfold) ▸ hpk | exact ((lsG_none _ _ (fun g hg hz => (hL.2.2 g (List.mem_of_mem_drop hg)).2 (by rw [hy0 (by omega)] at hz; rw [nd_z] at hz; exact hz))).symm.trans hfold) ▸ hpk) (Nat.le_of_ble_eq_true rfl) (Nat.le_of_ble_eq_true rfl)
          · skip
            have c_106 : 0 < k := Nat.lt_of_not_le (fun zz => c_106 ((n_le (a := k) (b := 0) (by omega) (by omega)).mpr zz))
            refine lv_aload_n hxR hbR dX0_least_2_109 rfl (lv_at hl 0 rfl) ?_
            refine r_get hxR hbR hts hown hK hI okX0 (ci := 0) rfl 8 (he_l xW_o) 3 (by decide) q267 rfl (v := .ref (adg 8)) rfl dX0_least_2_110 ?_
            refine lv_iload hxR hbR dX0_least_2_113 (lv_at hl 5 rfl) ?_
            refine lv_iload_n hxR hbR dX0_least_2_115 rfl (lv_at hl 2 rfl) ?_
            refine kVI (n := 2) (As := [.int (nI i), .int (nI y)]) (rest := []) (fun w => (xW E ad iv (va_up ch (128 * k + y) (nI c2)) (va_up rd (128 * k + y) (nI r2)) tp rf hd (adn 10) tr (adg 8) dy im) ++ (w ++ (tW E adn ivn hrn csn (sK K) ++ (dW E add ivd odd cod wtd tnd gnd)))) hxR hbR hmlR hts hown hK hA hl.1 (isCtx.mk _ _) hI (c2_isOf l E adg ivg grg pag mog sgg tng (GL K n st) i y hc (by first | omega | with_reducible assumption) (by first | omega | with_reducible assumption) (by first | omega | with_reducible assumption)) (lw_V q1279 q663 q664 q83 q665) ⟨rfl, by decide +kernel⟩ 0 2 rfl rfl gW_o rfl (Nat.le_of_ble_eq_true rfl) (Nat.le_of_ble_eq_true rfl) ⟨Nat.le_of_ble_eq_true rfl, Nat.le_of_ble_eq_true rfl⟩ (Nat.le_of_ble_eq_true rfl) dX0_least_2_116 (fun r_116 u H locs hp hI hz => ?_)
            have hI : wI E AR sR H locs (xW E ad iv (va_up ch (128 * k + y) (nI c2)) (va_up rd (128 * k + y) (nI r2)) tp rf hd (adn 10) tr (adg 8) dy im ++ (gW E adg ivg grg pag mog sgg tng ++ (tW E adn ivn hrn csn (sK K) ++ (dW E add ivd odd cod wtd tnd gnd)))) := hI
            have hp : r_116 = b2i (decide (nd ((GL K n st).getD i 0) y = 0)) := hp
            have hr_116 := hp
            rcases b2i_cases hr_116 with ⟨c_116, rfl⟩ | ⟨c_116, rfl⟩
            · skip
              have c_116 : nd ((GL K n st).getD i 0) y = 0 := of_decide_eq_true c_116
              refine lv_if_ne (tgt := 125) hxR hbR dX0_least_2_119 (by decide) (fun _ => ?_) (fun c => absurd c (by decide))
              have hcp := hcom (k - 1) (by omega)
              have hgm := getD_mem (L := (GL K n st)) (i := i) (by omega)
              have hgl := hL.lt (j := i) (by omega)
              obtain ⟨c1, r1, ea1, eb1, hp1⟩ := hpG _ hgm c_116
              obtain ⟨h9, hh9, eh9, hl9⟩ := hlate (by omega)
              have hg0 := hL.ne (j := i) (by omega)
              have hq1 := hp1.2.1
              have hq2 := hp1.2.2
              have hq3 := hpk.2.1
              have hq4 := hpk.2.2
              obtain ⟨l8, hl8, el⟩ := lv_n hcost (fun p hp hb => hl9 p hp (sub_bit c_116 hb)) hh9 n (Nat.le_refl n)
              have hba := nd_add y (by omega) _ hgl c_116
              have hbn := bits_nd c_116 8
              have hb1 := bits_pos 8 (show ((GL K n st).getD i 0) < 2 ^ 8 by omega) (hL.ne (j := i) (by omega))
              have hmn := bitsN_mono (S := ((GL K n st).getD i 0)) (a := n) (b := 8) (by omega)
              have hkN : lsN (fun j => (comL hrn n).getD j 0) hrn k = hrn ((comL hrn n).getD (k - 1) 0) := if_neg (by omega)
              rw [← eh9] at el
              have hpW := pkR_W (g := ((GL K n st).getD i 0)) (b := bitsN ((GL K n st).getD i 0) 8) (now := lsN (fun j => (comL hrn n).getD j 0) hrn k) (by rw [hkN]; exact el) (by omega) hp1 (by omega) (by omega)
              have hpW : pkR (lsW csn hrn (lsN (fun j => (comL hrn n).getD j 0) hrn k) ((GL K n st).getD i 0) n + lsV (GL K n st) (fun j => (comL hrn n).getD j 0) csn hrn n k (nd y ((GL K n st).getD i 0))) (l8 + c1) (r1 + 1) (bitsN y 8 + (n - k)) := (show bitsN (nd y ((GL K n st).getD i 0)) 8 + (n - k) + bitsN ((GL K n st).getD i 0) 8 = bitsN y 8 + (n - k) by omega) ▸ hpW
              refine lv_iload hxR hbR dX0_least_2_125 (lv_at hl 4 rfl) ?_
              refine lv_aload_n hxR hbR dX0_least_2_127 rfl (lv_at hl 0 rfl) ?_
              refine r_get hxR hbR hts hown hK hI okX0 (ci := 0) rfl 8 (he_l xW_o) 3 (by decide) q267 rfl (v := .ref (adg 8)) rfl dX0_least_2_128 ?_
              refine r_get hxR hbR hts hown hK hI okX2 (ci := 2) rfl (14 + 0) (he_r (Nat.le_of_ble_eq_true rfl) (Nat.le_of_ble_eq_true rfl) (he_l gW_o)) 0 (by decide) q190 rfl (v := .ref (adg 0)) rfl dX0_least_2_131 ?_
              refine lv_iload hxR hbR dX0_least_2_134 (lv_at hl 5 rfl) ?_
              refine r_iald hxR hbR hK hI (14 + 1) (n := 35) (J := i) (f := grg) (v := nI ((GL K n st).getD i 0)) (he_r (Nat.le_of_ble_eq_true rfl) (Nat.le_of_ble_eq_true rfl) (he_l (gW_g0 rfl))) (by omega) (by decide) (hL.at (by omega)) dX0_least_2_136 ?_
              refine lv_isub hxR hbR dX0_least_2_137 ?_
              refine lv_as (y := nI (128 * k + nd y ((GL K n st).getD i 0))) (by rw [pk_sub (by omega)]; exact congrArg nI (by omega)) ?_
              refine lv_istore (lv' := [(6, .int (nI (128 * k + nd y ((GL K n st).getD i 0)))), (0, .ref (ad 11)), (1, .int (nI k)), (2, .int (nI y)), (3, .ref (add 0)), (4, .int (nI ((128 * k) + y))), (5, .int (nI i))]) hxR hbR dX0_least_2_138 hl (by decide) rfl (fun ls hl => ?_)
              refine lv_aload_n hxR hbR dX0_least_2_140 rfl (lv_at hl 1 rfl) ?_
              refine lv_aload_n hxR hbR dX0_least_2_141 rfl (lv_at hl 1 rfl) ?_
              refine r_get hxR hbR hts hown hK hI okX0 (ci := 0) rfl 8 (he_l xW_o) 3 (by decide) q267 rfl (v := .ref (adg 8)) rfl dX0_least_2_142 ?_
              refine r_get hxR hbR hts hown hK hI okX2 (ci := 2) rfl (14 + 0) (he_r (Nat.le_of_ble_eq_true rfl) (Nat.le_of_ble_eq_true rfl) (he_l gW_o)) 0 (by decide) q190 rfl (v := .ref (adg 0)) rfl dX0_least_2_145 ?_
              refine lv_iload hxR hbR dX0_least_2_148 (lv_at hl 6 rfl) ?_
              refine r_iald hxR hbR hK hI (14 + 1) (n := 35) (J := i) (f := grg) (v := nI ((GL K n st).getD i 0)) (he_r (Nat.le_of_ble_eq_true rfl) (Nat.le_of_ble_eq_true rfl) (he_l (gW_g0 rfl))) (by omega) (by decide) (hL.at (by omega)) dX0_least_2_150 ?_
              refine lv_aload_n hxR hbR dX0_least_2_151 rfl (lv_at hl 1 rfl) ?_
              refine r_get hxR hbR hts hown hK hI okX0 (ci := 0) rfl 8 (he_l xW_o) 0 (by decide) q263 rfl (v := .ref (adn 10)) rfl dX0_least_2_152 ?_
              refine r_get hxR hbR hts hown hK hI okX1 (ci := 1) rfl (14 + (5 + 0)) (he_r (Nat.le_of_ble_eq_true rfl) (Nat.le_of_ble_eq_true rfl) (he_r (Nat.le_of_ble_eq_true rfl) (Nat.le_of_ble_eq_true rfl) (he_l tW_o))) 0 (by decide) q133 rfl (v := .ref (adn 0)) rfl dX0_least_2_155 ?_
              refine lv_aload_n hxR hbR dX0_least_2_158 rfl (lv_at hl 4 rfl) ?_
              refine lv_iload_n hxR hbR dX0_least_2_159 rfl (lv_at hl 2 rfl) ?_
              refine lv_iconst (v := 1) hxR hbR dX0_least_2_160 (by decide) ?_
              refine lv_isub hxR hbR dX0_least_2_161 ?_
              refine lv_as (y := nI (k - 1)) (pk_sub (a := k) (b := 1) (by omega)) ?_
              refine r_iald hxR hbR hK hI (14 + (5 + (4 + 1))) (n := 7) (J := k - 1) (f := odd) (v := nI ((comL hrn n).getD (k - 1) 0)) (he_r (Nat.le_of_ble_eq_true rfl) (Nat.le_of_ble_eq_true rfl) (he_r (Nat.le_of_ble_eq_true rfl) (Nat.le_of_ble_eq_true rfl) (he_r (Nat.le_of_ble_eq_true rfl) (Nat.le_of_ble_eq_true rfl) (dW_g0 rfl)))) (by omega) (by decide) (hord _ (by omega)) dX0_least_2_162 ?_
              refine r_iald hxR hbR hK hI (14 + (5 + 1)) (n := 7) (J := (comL hrn n).getD (k - 1) 0) (f := hrn) (v := hrn ((comL hrn n).getD (k - 1) 0)) (he_r (Nat.le_of_ble_eq_true rfl) (Nat.le_of_ble_eq_true rfl) (he_r (Nat.le_of_ble_eq_true rfl) (Nat.le_of_ble_eq_true rfl) (he_l (tW_g0 rfl)))) (by omega) (by decide) rfl dX0_least_2_163 ?_
              have hI : wI E AR sR _ _ (xW E ad iv (va_up ch (128 * k + y) (nI c2)) (va_up rd (128 * k + y) (nI r2)) tp rf hd (adn 10) tr (adg 8) dy im ++ (tW E adn ivn hrn csn (sK K) ++ (gW E adg ivg grg pag mog sgg tng ++ (dW E add ivd odd cod wtd tnd gnd)))) := wI_pick ([xW E ad iv (va_up ch (128 * k + y) (nI c2)) (va_up rd (128 * k + y) (nI r2)) tp rf hd (adn 10) tr (adg 8) dy im, gW E adg ivg grg pag mog sgg tng, tW E adn ivn hrn csn (sK K), dW E add ivd odd cod wtd tnd gnd]) [0, 2, 1, 3] 4 rfl (by decide) hI
              have hI := wI_w app2 hI
              refine kVI (n := 2) (As := [.int (nI ((GL K n st).getD i 0)), .int (hrn ((comL hrn n).getD (k - 1) 0))]) (rest := []) (fun w => w ++ (gW E adg ivg grg pag mog sgg tng ++ (dW E add ivd odd cod wtd tnd gnd))) hxR hbR hmlR hts hown hK hA hl.1 (isCtx.suf _) hI (c0_leaving l E ad iv (va_up ch (128 * k + y) (nI c2)) (va_up rd (128 * k + y) (nI r2)) tp rf hd tr (adg 8) dy im adn ivn hrn csn K n ((GL K n st).getD i 0) (hrn ((comL hrn n).getD (k - 1) 0)) hn (by first | omega | with_reducible assumption) (by omega)) (lw_V q1274 q1276 qs24 q81 q1277) ⟨rfl, by decide +kernel⟩ 8 0 rfl rfl (he_l xW_o) rfl (Nat.le_of_ble_eq_true rfl) (Nat.le_of_ble_eq_true rfl) ⟨Nat.le_of_ble_eq_true rfl, Nat.le_of_ble_eq_true rfl⟩ (Nat.le_of_ble_eq_true rfl) dX0_least_2_164 (fun r_164 u H locs hp hI hz => ?_)
              have hI := wI_w app2.symm hI
              have hI : wI E AR sR H locs (xW E ad iv (va_up ch (128 * k + y) (nI c2)) (va_up rd (128 * k + y) (nI r2)) tp rf hd (adn 10) tr (adg 8) dy im ++ (tW E adn ivn hrn csn (sK K) ++ (gW E adg ivg grg pag mog sgg tng ++ (dW E add ivd odd cod wtd tnd gnd)))) := hI
              have hI : wI E AR sR _ _ (xW E ad iv (va_up ch (128 * k + y) (nI c2)) (va_up rd (128 * k + y) (nI r2)) tp rf hd (adn 10) tr (adg 8) dy im ++ (gW E adg ivg grg pag mog sgg tng ++ (tW E adn ivn hrn csn (sK K) ++ (dW E add ivd odd cod wtd tnd gnd)))) := wI_pick ([xW E ad iv (va_up ch (128 * k + y) (nI c2)) (va_up rd (128 * k + y) (nI r2)) tp rf hd (adn 10) tr (adg 8) dy im, tW E adn ivn hrn csn (sK K), gW E adg ivg grg pag mog sgg tng, dW E add ivd odd cod wtd tnd gnd]) [0, 2, 1, 3] 4 rfl (by decide) hI
              have hp : r_164 = lvF csn hrn ((GL K n st).getD i 0) (hrn ((comL hrn n).getD (k - 1) 0)) n := hp
              have hr_164 := hp
              subst hr_164
              refine lv_aload_n hxR hbR dX0_least_2_167 rfl (lv_at hl 1 rfl) ?_
              refine r_get hxR hbR hts hown hK hI okX0 (ci := 0) rfl 8 (he_l xW_o) 5 (by decide) q269 rfl (v := .ref (ad 5)) rfl dX0_least_2_168 ?_
              refine lv_iload hxR hbR dX0_least_2_171 (lv_at hl 0 rfl) ?_
              refine r_iald hxR hbR hK hI 9 (n := 1024) (J := 128 * k + nd y ((GL K n st).getD i 0)) (f := va_up ch (128 * k + y) (nI c2)) (v := nI c1) (he_l (xW_g5 rfl)) (by omega) (by decide) (by rw [va_up_n (by omega)]; exact ea1) dX0_least_2_173 ?_
              refine lv_iadd hxR hbR dX0_least_2_174 ?_
              refine lv_as (y := nI (l8 + c1)) (by rw [el, nI_add]) ?_
              refine lv_istore (lv' := [(7, .int (nI (l8 + c1))), (6, .int (nI (128 * k + nd y ((GL K n st).getD i 0)))), (0, .ref (ad 11)), (1, .int (nI k)), (2, .int (nI y)), (3, .ref (add 0)), (4, .int (nI ((128 * k) + y))), (5, .int (nI i))]) hxR hbR dX0_least_2_175 hl (by decide) rfl (fun ls hl => ?_)
              refine lv_aload_n hxR hbR dX0_least_2_177 rfl (lv_at hl 2 rfl) ?_
              refine r_get hxR hbR hts hown hK hI okX0 (ci := 0) rfl 8 (he_l xW_o) 6 (by decide) q270 rfl (v := .ref (ad 6)) rfl dX0_least_2_178 ?_
              refine lv_iload hxR hbR dX0_least_2_181 (lv_at hl 1 rfl) ?_
              refine r_iald hxR hbR hK hI 10 (n := 1024) (J := 128 * k + nd y ((GL K n st).getD i 0)) (f := va_up rd (128 * k + y) (nI r2)) (v := nI r1) (he_l (xW_g6 rfl)) (by omega) (by decide) (by rw [va_up_n (by omega)]; exact eb1) dX0_least_2_183 ?_
              refine lv_iconst (v := 1) hxR hbR dX0_least_2_184 (by decide) ?_
              refine lv_iadd hxR hbR dX0_least_2_185 ?_
              refine lv_as (y := nI (r1 + 1)) (nI_add r1 1) ?_
              refine lv_istore (lv' := [(8, .int (nI (r1 + 1))), (7, .int (nI (l8 + c1))), (6, .int (nI (128 * k + nd y ((GL K n st).getD i 0)))), (0, .ref (ad 11)), (1, .int (nI k)), (2, .int (nI y)), (3, .ref (add 0)), (4, .int (nI ((128 * k) + y))), (5, .int (nI i))]) hxR hbR dX0_least_2_186 hl (by decide) rfl (fun ls hl => ?_)
              refine lv_iload hxR hbR dX0_least_2_188 (lv_at hl 1 rfl) ?_
              refine lv_aload_n hxR hbR dX0_least_2_190 rfl (lv_at hl 3 rfl) ?_
              refine r_get hxR hbR hts hown hK hI okX0 (ci := 0) rfl 8 (he_l xW_o) 5 (by decide) q269 rfl (v := .ref (ad 5)) rfl dX0_least_2_191 ?_
              refine lv_iload hxR hbR dX0_least_2_194 (lv_at hl 7 rfl) ?_
              refine r_iald hxR hbR hK hI 9 (n := 1024) (J := (128 * k) + y) (f := va_up ch (128 * k + y) (nI c2)) (v := nI c2) (he_l (xW_g5 rfl)) (by omega) (by decide) va_up_s dX0_least_2_196 ?_
              refine lv_icmp_lt (tgt := 224) hxR hbR dX0_least_2_197 (by decide) (fun c_197 => ?_) (fun c_197 => ?_)
              · skip
                have c_197 : (l8 + c1) < c2 := (n_lt (a := (l8 + c1)) (b := c2) (by omega) (by omega)).mp c_197
                refine lv_aload_n hxR hbR dX0_least_2_224 rfl (lv_at hl 3 rfl) ?_
                refine r_get hxR hbR hts hown hK hI okX0 (ci := 0) rfl 8 (he_l xW_o) 5 (by decide) q269 rfl (v := .ref (ad 5)) rfl dX0_least_2_225 ?_
                refine lv_iload hxR hbR dX0_least_2_228 (lv_at hl 7 rfl) ?_
                refine lv_iload hxR hbR dX0_least_2_230 (lv_at hl 1 rfl) ?_
                refine r_iast (ws1 := xW E ad iv (va_up (va_up ch (128 * k + y) (nI c2)) ((128 * k) + y) (nI (l8 + c1))) (va_up rd (128 * k + y) (nI r2)) tp rf hd (adn 10) tr (adg 8) dy im ++ (gW E adg ivg grg pag mog sgg tng ++ (tW E adn ivn hrn csn (sK K) ++ (dW E add ivd odd cod wtd tnd gnd)))) hxR hbR hK hI 9 (n := 1024) (J := (128 * k) + y) (f := va_up ch (128 * k + y) (nI c2)) (he_l (xW_g5 rfl)) (by omega) (by decide) (hw_l (Nat.le_of_ble_eq_true rfl) xW_a5) dX0_least_2_232 (fun H locs hI => ?_)
                refine lv_aload_n hxR hbR dX0_least_2_233 rfl (lv_at hl 3 rfl) ?_
                refine r_get hxR hbR hts hown hK hI okX0 (ci := 0) rfl 8 (he_l xW_o) 6 (by decide) q270 rfl (v := .ref (ad 6)) rfl dX0_least_2_234 ?_
                refine lv_iload hxR hbR dX0_least_2_237 (lv_at hl 7 rfl) ?_
                refine lv_iload hxR hbR dX0_least_2_239 (lv_at hl 0 rfl) ?_
                refine r_iast (ws1 := xW E ad iv (va_up (va_up ch (128 * k + y) (nI c2)) ((128 * k) + y) (nI (l8 + c1))) (va_up (va_up rd (128 * k + y) (nI r2)) ((128 * k) + y) (nI (r1 + 1))) tp rf hd (adn 10) tr (adg 8) dy im ++ (gW E adg ivg grg pag mog sgg tng ++ (tW E adn ivn hrn csn (sK K) ++ (dW E add ivd odd cod wtd tnd gnd)))) hxR hbR hK hI 10 (n := 1024) (J := (128 * k) + y) (f := va_up rd (128 * k + y) (nI r2)) (he_l (xW_g6 rfl)) (by omega) (by decide) (hw_l (Nat.le_of_ble_eq_true rfl) xW_a6) dX0_least_2_241 (fun H locs hI => ?_)
                refine lv_iinc (v := nI (i + 1)) (lv' := [(5, .int (nI (i + 1))), (8, .int (nI (r1 + 1))), (7, .int (nI (l8 + c1))), (6, .int (nI (128 * k + nd y ((GL K n st).getD i 0)))), (0, .ref (ad 11)), (1, .int (nI k)), (2, .int (nI y)), (3, .ref (add 0)), (4, .int (nI ((128 * k) + y)))]) hxR hbR dX0_least_2_242 hl (k := 8) rfl (show nI i + 1 = nI (i + 1) from nI_add _ 1) (by decide) rfl (fun ls hl => ?_)
                refine lv_goto (tgt := 93) hxR hbR dX0_least_2_245 (by decide) ?_
                exact ih_93 (i + 1) (l8 + c1) (r1 + 1) (lsW csn hrn (lsN (fun j => (comL hrn n).getD j 0) hrn k) ((GL K n st).getD i 0) n + lsV (GL K n st) (fun j => (comL hrn n).getD j 0) csn hrn n k (nd y ((GL K n st).getD i 0))) (va_up (va_up ch (128 * k + y) (nI c2)) ((128 * k) + y) (nI (l8 + c1))) (va_up (va_up rd (128 * k + y) (nI r2)) ((128 * k) + y) (nI (r1 + 1))) (by first | omega | with_reducible assumption) (by first | rfl | exact va_up_up) (by first | rfl | exact va_up_up) (by first | (have e9 := foldl_d3 c_102 hfold; rw [lsG_n c_116] at e9; exact e9) | exact (lsG_a c_116 ((pkR_lt hpW hpk (by omega)).mpr (by omega))) ▸ foldl_d3 c_102 hfold | exact (lsG_b c_116 (Classical.not_not.mp (fun z => by have := (pkR_lt hpW hpk (by omega)).mp z; omega))) ▸ foldl_d3 c_102 hfold) (by first | exact hpk | exact hpW) (by omega) _ _ hI _ (lv_sub hl [4, 5, 6, 7, 8, 0] rfl)
              · skip
                have c_197 : c2 ≤ (l8 + c1) := Nat.le_of_not_lt (fun zz => c_197 ((n_lt (a := (l8 + c1)) (b := c2) (by omega) (by omega)).mpr zz))
                refine lv_iload hxR hbR dX0_least_2_200 (lv_at hl 1 rfl) ?_
                refine lv_aload_n hxR hbR dX0_least_2_202 rfl (lv_at hl 3 rfl) ?_
                refine r_get hxR hbR hts hown hK hI okX0 (ci := 0) rfl 8 (he_l xW_o) 5 (by decide) q269 rfl (v := .ref (ad 5)) rfl dX0_least_2_203 ?_
                refine lv_iload hxR hbR dX0_least_2_206 (lv_at hl 7 rfl) ?_
                refine r_iald hxR hbR hK hI 9 (n := 1024) (J := (128 * k) + y) (f := va_up ch (128 * k + y) (nI c2)) (v := nI c2) (he_l (xW_g5 rfl)) (by omega) (by decide) va_up_s dX0_least_2_208 ?_
                refine lv_icmp_ne (tgt := 242) hxR hbR dX0_least_2_209 (by decide) (fun c_209 => ?_) (fun c_209 => ?_)
                · skip
                  have c_209 : ¬ (l8 + c1) = c2 := fun zz => c_209 ((n_eq (a := (l8 + c1)) (b := c2) (by omega) (by omega)).mpr zz)
                  refine lv_iinc (v := nI (i + 1)) (lv' := [(5, .int (nI (i + 1))), (8, .int (nI (r1 + 1))), (7, .int (nI (l8 + c1))), (6, .int (nI (128 * k + nd y ((GL K n st).getD i 0)))), (0, .ref (ad 11)), (1, .int (nI k)), (2, .int (nI y)), (3, .ref (add 0)), (4, .int (nI ((128 * k) + y)))]) hxR hbR dX0_least_2_242 hl (k := 8) rfl (show nI i + 1 = nI (i + 1) from nI_add _ 1) (by decide) rfl (fun ls hl => ?_)
                  refine lv_goto (tgt := 93) hxR hbR dX0_least_2_245 (by decide) ?_
                  exact ih_93 (i + 1) c2 r2 TB (va_up ch (128 * k + y) (nI c2)) (va_up rd (128 * k + y) (nI r2)) (by first | omega | with_reducible assumption) (by first | rfl | exact va_up_up) (by first | rfl | exact va_up_up) (by first | (have e9 := foldl_d3 c_102 hfold; rw [lsG_n c_116] at e9; exact e9) | exact (lsG_a c_116 ((pkR_lt hpW hpk (by omega)).mpr (by omega))) ▸ foldl_d3 c_102 hfold | exact (lsG_b c_116 (Classical.not_not.mp (fun z => by have := (pkR_lt hpW hpk (by omega)).mp z; omega))) ▸ foldl_d3 c_102 hfold) (by first | exact hpk | exact hpW) (by omega) _ _ hI _ (lv_sub hl [4, 5, 6, 7, 8, 0] rfl)
                · skip
                  have c_209 : (l8 + c1) = c2 := (n_eq (a := (l8 + c1)) (b := c2) (by omega) (by omega)).mp c_209
                  refine lv_iload hxR hbR dX0_least_2_212 (lv_at hl 0 rfl) ?_
                  refine lv_aload_n hxR hbR dX0_least_2_214 rfl (lv_at hl 3 rfl) ?_
                  refine r_get hxR hbR hts hown hK hI okX0 (ci := 0) rfl 8 (he_l xW_o) 6 (by decide) q270 rfl (v := .ref (ad 6)) rfl dX0_least_2_215 ?_
                  refine lv_iload hxR hbR dX0_least_2_218 (lv_at hl 7 rfl) ?_
                  refine r_iald hxR hbR hK hI 10 (n := 1024) (J := (128 * k) + y) (f := va_up rd (128 * k + y) (nI r2)) (v := nI r2) (he_l (xW_g6 rfl)) (by omega) (by decide) va_up_s dX0_least_2_220 ?_
                  refine lv_icmp_le (tgt := 242) hxR hbR dX0_least_2_221 (by decide) (fun c_221 => ?_) (fun c_221 => ?_)
                  · skip
                    have c_221 : (r1 + 1) ≤ r2 := (n_le (a := (r1 + 1)) (b := r2) (by omega) (by omega)).mp c_221
                    refine lv_iinc (v := nI (i + 1)) (lv' := [(5, .int (nI (i + 1))), (8, .int (nI (r1 + 1))), (7, .int (nI (l8 + c1))), (6, .int (nI (128 * k + nd y ((GL K n st).getD i 0)))), (0, .ref (ad 11)), (1, .int (nI k)), (2, .int (nI y)), (3, .ref (add 0)), (4, .int (nI ((128 * k) + y)))]) hxR hbR dX0_least_2_242 hl (k := 8) rfl (show nI i + 1 = nI (i + 1) from nI_add _ 1) (by decide) rfl (fun ls hl => ?_)
                    refine lv_goto (tgt := 93) hxR hbR dX0_least_2_245 (by decide) ?_
                    exact ih_93 (i + 1) c2 r2 TB (va_up ch (128 * k + y) (nI c2)) (va_up rd (128 * k + y) (nI r2)) (by first | omega | with_reducible assumption) (by first | rfl | exact va_up_up) (by first | rfl | exact va_up_up) (by first | (have e9 := foldl_d3 c_102 hfold; rw [lsG_n c_116] at e9; exact e9) | exact (lsG_a c_116 ((pkR_lt hpW hpk (by omega)).mpr (by omega))) ▸ foldl_d3 c_102 hfold | exact (lsG_b c_116 (Classical.not_not.mp (fun z => by have := (pkR_lt hpW hpk (by omega)).mp z; omega))) ▸ foldl_d3 c_102 hfold) (by first | exact hpk | exact hpW) (by omega) _ _ hI _ (lv_sub hl [4, 5, 6, 7, 8, 0] rfl)
                  · skip
                    have c_221 : r2 < (r1 + 1) := Nat.lt_of_not_le (fun zz => c_221 ((n_le (a := (r1 + 1)) (b := r2) (by omega) (by omega)).mpr zz))
                    refine lv_aload_n hxR hbR dX0_least_2_224 rfl (lv_at hl 3 rfl) ?_
                    refine r_get hxR hbR hts hown hK hI okX0 (ci := 0) rfl 8 (he_l xW_o) 5 (by decide) q269 rfl (v := .ref (ad 5)) rfl dX0_least_2_225 ?_
                    refine lv_iload hxR hbR dX0_least_2_228 (lv_at hl 7 rfl) ?_
                    refine lv_iload hxR hbR dX0_least_2_230 (lv_at hl 1 rfl) ?_
                    refine r_iast (ws1 := xW E ad iv (va_up (va_up ch (128 * k + y) (nI c2)) ((128 * k) + y) (nI (l8 + c1))) (va_up rd (128 * k + y) (nI r2)) tp rf hd (adn 10) tr (adg 8) dy im ++ (gW E adg ivg grg pag mog sgg tng ++ (tW E adn ivn hrn csn (sK K) ++ (dW E add ivd odd cod wtd tnd gnd)))) hxR hbR hK hI 9 (n := 1024) (J := (128 * k) + y) (f := va_up ch (128 * k + y) (nI c2)) (he_l (xW_g5 rfl)) (by omega) (by decide) (hw_l (Nat.le_of_ble_eq_true rfl) xW_a5) dX0_least_2_232 (fun H locs hI => ?_)
                    refine lv_aload_n hxR hbR dX0_least_2_233 rfl (lv_at hl 3 rfl) ?_
                    refine r_get hxR hbR hts hown hK hI okX0 (ci := 0) rfl 8 (he_l xW_o) 6 (by decide) q270 rfl (v := .ref (ad 6)) rfl dX0_least_2_234 ?_
                    refine lv_iload hxR hbR dX0_least_2_237 (lv_at hl 7 rfl) ?_
                    refine lv_iload hxR hbR dX0_least_2_239 (lv_at hl 0 rfl) ?_
                    refine r_iast (ws1 := xW E ad iv (va_up (va_up ch (128 * k + y) (nI c2)) ((128 * k) + y) (nI (l8 + c1))) (va_up (va_up rd (128 * k + y) (nI r2)) ((128 * k) + y) (nI (r1 + 1))) tp rf hd (adn 10) tr (adg 8) dy im ++ (gW E adg ivg grg pag mog sgg tng ++ (tW E adn ivn hrn csn (sK K) ++ (dW E add ivd odd cod wtd tnd gnd)))) hxR hbR hK hI 10 (n := 1024) (J := (128 * k) + y) (f := va_up rd (128 * k + y) (nI r2)) (he_l (xW_g6 rfl)) (by omega) (by decide) (hw_l (Nat.le_of_ble_eq_true rfl) xW_a6) dX0_least_2_241 (fun H locs hI => ?_)
                    refine lv_iinc (v := nI (i + 1)) (lv' := [(5, .int (nI (i + 1))), (8, .int (nI (r1 + 1))), (7, .int (nI (l8 + c1))), (6, .int (nI (128 * k + nd y ((GL K n st).getD i 0)))), (0, .ref (ad 11)), (1, .int (nI k)), (2, .int (nI y)), (3, .ref (add 0)), (4, .int (nI ((128 * k) + y)))]) hxR hbR dX0_least_2_242 hl (k := 8) rfl (show nI i + 1 = nI (i + 1) from nI_add _ 1) (by decide) rfl (fun ls hl => ?_)
                    refine lv_goto (tgt := 93) hxR hbR dX0_least_2_245 (by decide) ?_
                    exact ih_93 (i + 1) (l8 + c1) (r1 + 1) (lsW csn hrn (lsN (fun j => (comL hrn n).getD j 0) hrn k) ((GL K n st).getD i 0) n + lsV (GL K n st) (fun j => (comL hrn n).getD j 0) csn hrn n k (nd y ((GL K n st).getD i 0))) (va_up (va_up ch (128 * k + y) (nI c2)) ((128 * k) + y) (nI (l8 + c1))) (va_up (va_up rd (128 * k + y) (nI r2)) ((128 * k) + y) (nI (r1 + 1))) (by first | omega | with_reducible assumption) (by first | rfl | exact va_up_up) (by first | rfl | exact va_up_up) (by first | (have e9 := foldl_d3 c_102 hfold; rw [lsG_n c_116] at e9; exact e9) | exact (lsG_a c_116 ((pkR_lt hpW hpk (by omega)).mpr (by omega))) ▸ foldl_d3 c_102 hfold | exact (lsG_b c_116 (Classical.not_not.mp (fun z => by have := (pkR_lt hpW hpk (by omega)).mp z; omega))) ▸ foldl_d3 c_102 hfold) (by first | exact hpk | exact hpW) (by omega) _ _ hI _ (lv_sub hl [4, 5, 6, 7, 8, 0] rfl)
            · skip
              have c_116 : ¬ nd ((GL K n st).getD i 0) y = 0 := of_decide_eq_false c_116
              refine lv_if_ne (tgt := 125) hxR hbR dX0_least_2_119 (by decide) (fun c => absurd c (by decide)) (fun _ => ?_)
              refine lv_goto (tgt := 242) hxR hbR dX0_least_2_122 (by decide) ?_
              refine lv_iinc (v := nI (i + 1)) (lv' := [(5, .int (nI (i + 1))), (0, .ref (ad 11)), (1, .int (nI k)), (2, .int (nI y)), (3, .ref (add 0)), (4, .int (nI ((128 * k) + y)))]) hxR hbR dX0_least_2_242 hl (k := 5) rfl (show nI i + 1 = nI (i + 1) from nI_add _ 1) (by decide) rfl (fun ls hl => ?_)
              refine lv_goto (tgt := 93) hxR hbR dX0_least_2_245 (by decide) ?_
              exact ih_93 (i + 1) c2 r2 TB (va_up ch (128 * k + y) (nI c2)) (va_up rd (128 * k + y) (nI r2)) (by first | omega | with_reducible assumption) (by first | rfl | exact va_up_up) (by first | rfl | exact va_up_up) (by first | (have e9 := foldl_d3 c_102 hfold; rw [lsG_n c_116] at e9; exact e9) | exact (lsG_a c_116 ((pkR_lt hpW hpk (by omega)).mpr (by omega))) ▸ foldl_d3 c_102 hfold | exact (lsG_b c_116 (Classical.not_not.mp (fun z => by have := (pkR_lt hpW hpk (by omega)).mp z; omega))) ▸ foldl_d3 c_102 hfold) (by first | exact hpk | exact hpW) (by omega) _ _ hI _ (lv_sub hl [1, 2, 3, 4, 5, 0] rfl)
    exact lp_93 _ 0 c0 r0 (lsB (GL K n st) (fun j => (comL hrn n).getD j 0) csn hrn n k y) (va_up ch ((128 * k) + y) (nI c0)) (va_up rd ((128 * k) + y) (nI r0)) (by first | omega | with_reducible assumption) (by first | rfl | rw [ec0]) (by first | rfl | rw [er0]; rfl) hVe hp0 (Nat.lt_succ_self _) _ _ hI _ (lv_sub hl [2, 3, 4, 5, 1, 0] rfl)
  · skip
    have c_17 : k = n := (n_eq (a := k) (b := n) (by omega) (by omega)).mp c_17
    refine lv_aload_n hxR hbR dX0_least_2_20 rfl (lv_at hl 1 rfl) ?_
    refine r_get hxR hbR hts hown hK hI okX0 (ci := 0) rfl 8 (he_l xW_o) 5 (by decide) q269 rfl (v := .ref (ad 5)) rfl dX0_least_2_21 ?_
    refine lv_iload hxR hbR dX0_least_2_24 (lv_at hl 0 rfl) ?_
    refine lv_aload_n hxR hbR dX0_least_2_26 rfl (lv_at hl 1 rfl) ?_
    refine lv_iload_n hxR hbR dX0_least_2_27 rfl (lv_at hl 3 rfl) ?_
    refine lv_bipush (v := 24) hxR hbR dX0_least_2_28 (by decide) ?_
    have hI : wI E AR sR _ _ (xW E ad iv ch rd tp rf hd (adn 10) tr (adg 8) dy im ++ (tW E adn ivn hrn csn (sK K) ++ (gW E adg ivg grg pag mog sgg tng ++ (dW E add ivd odd cod wtd tnd gnd)))) := wI_pick ([xW E ad iv ch rd tp rf hd (adn 10) tr (adg 8) dy im, gW E adg ivg grg pag mog sgg tng, tW E adn ivn hrn csn (sK K), dW E add ivd odd cod wtd tnd gnd]) [0, 2, 1, 3] 4 rfl (by decide) hI
    have hI := wI_w app2 hI
    refine kVI (n := 2) (As := [.int (nI y), .int 24]) (rest := [.int (nI ((128 * k) + y)), .ref (ad 5)]) (fun w => w ++ (gW E adg ivg grg pag mog sgg tng ++ (dW E add ivd odd cod wtd tnd gnd))) hxR hbR hmlR hts hown hK hA hl.1 (isCtx.suf _) hI (c0_leaving l E ad iv ch rd tp rf hd tr (adg 8) dy im adn ivn hrn csn K n y 24 hn (by first | omega | with_reducible assumption) (by first | omega | with_reducible assumption)) (lw_V q1274 q1276 qs24 q81 q1277) ⟨rfl, by decide +kernel⟩ 8 0 rfl rfl (he_l xW_o) rfl (Nat.le_of_ble_eq_true rfl) (Nat.le_of_ble_eq_true rfl) ⟨Nat.le_of_ble_eq_true rfl, Nat.le_of_ble_eq_true rfl⟩ (Nat.le_of_ble_eq_true rfl) dX0_least_2_30 (fun r_30 u H locs hp hI hz => ?_)
    have hI := wI_w app2.symm hI
    have hI : wI E AR sR H locs (xW E ad iv ch rd tp rf hd (adn 10) tr (adg 8) dy im ++ (tW E adn ivn hrn csn (sK K) ++ (gW E adg ivg grg pag mog sgg tng ++ (dW E add ivd odd cod wtd tnd gnd)))) := hI
    have hI : wI E AR sR _ _ (xW E ad iv ch rd tp rf hd (adn 10) tr (adg 8) dy im ++ (gW E adg ivg grg pag mog sgg tng ++ (tW E adn ivn hrn csn (sK K) ++ (dW E add ivd odd cod wtd tnd gnd)))) := wI_pick ([xW E ad iv ch rd tp rf hd (adn 10) tr (adg 8) dy im, tW E adn ivn hrn csn (sK K), gW E adg ivg grg pag mog sgg tng, dW E add ivd odd cod wtd tnd gnd]) [0, 2, 1, 3] 4 rfl (by decide) hI
    have hp : r_30 = lvF csn hrn y 24 n := hp
    have hr_30 := hp
    subst hr_30
    obtain ⟨c0, hc0, ec0⟩ := lv_n hcost heve (Nat.le_refl 24) n (Nat.le_refl n)
    have ec0 : lvF csn hrn y 24 n = nI c0 := ec0
    obtain ⟨r0, er0⟩ : ∃ z : Nat, z = 0 := ⟨_, rfl⟩
    have hbm := bitsN_mono (S := y) (a := n) (b := 8) (by omega)
    have hp0 : pkR (lsB (GL K n st) (fun j => (comL hrn n).getD j 0) csn hrn n k y) c0 r0 (bitsN y 8 + (n - k)) := by rw [lsB, if_pos (by omega), er0]; exact pkR_E ec0 (by omega)
    refine r_iast (ws1 := xW E ad iv (va_up ch ((128 * k) + y) (lvF csn hrn y 24 n)) rd tp rf hd (adn 10) tr (adg 8) dy im ++ (gW E adg ivg grg pag mog sgg tng ++ (tW E adn ivn hrn csn (sK K) ++ (dW E add ivd odd cod wtd tnd gnd)))) hxR hbR hK hI 9 (n := 1024) (J := (128 * k) + y) (f := ch) (he_l (xW_g5 rfl)) (by omega) (by decide) (hw_l (Nat.le_of_ble_eq_true rfl) xW_a5) dX0_least_2_33 (fun H locs hI => ?_)
    refine lv_aload_n hxR hbR dX0_least_2_34 rfl (lv_at hl 1 rfl) ?_
    refine r_get hxR hbR hts hown hK hI okX0 (ci := 0) rfl 8 (he_l xW_o) 6 (by decide) q270 rfl (v := .ref (ad 6)) rfl dX0_least_2_35 ?_
    refine lv_iload hxR hbR dX0_least_2_38 (lv_at hl 0 rfl) ?_
    refine lv_iconst (v := 0) hxR hbR dX0_least_2_40 (by decide) ?_
    refine r_iast (ws1 := xW E ad iv (va_up ch ((128 * k) + y) (lvF csn hrn y 24 n)) (va_up rd ((128 * k) + y) 0) tp rf hd (adn 10) tr (adg 8) dy im ++ (gW E adg ivg grg pag mog sgg tng ++ (tW E adn ivn hrn csn (sK K) ++ (dW E add ivd odd cod wtd tnd gnd)))) hxR hbR hK hI 10 (n := 1024) (J := (128 * k) + y) (f := rd) (he_l (xW_g6 rfl)) (by omega) (by decide) (hw_l (Nat.le_of_ble_eq_true rfl) xW_a6) dX0_least_2_41 (fun H locs hI => ?_)
    refine lv_goto (tgt := 90) hxR hbR dX0_least_2_42 (by decide) ?_
    refine lv_iconst (v := 0) hxR hbR dX0_least_2_90 (by decide) ?_
    refine lv_istore (lv' := [(5, .int 0), (4, .int (nI ((128 * k) + y))), (0, .ref (ad 11)), (1, .int (nI k)), (2, .int (nI y)), (3, .ref (add 0))]) hxR hbR dX0_least_2_91 hl (by decide) rfl (fun ls hl => ?_)
    have lp_93 : ∀ (fu : Nat) (i : Nat) (c2 : Nat) (r2 : Nat) (TB : Int32) (chx : Nat → Int32) (rdx : Nat → Int32), (i ≤ (GL K n st).length) → (chx = va_up ch (128 * k + y) (nI c2)) → (rdx = va_up rd (128 * k + y) (nI r2)) → (((GL K n st).drop i).foldl (lsG (GL K n st) (fun j => (comL hrn n).getD j 0) csn hrn n k y) TB = lsV (GL K n st) (fun j => (comL hrn n).getD j 0) csn hrn n k y) → (pkR TB c2 r2 (bitsN y 8 + (n - k))) → (GL K n st).length - i < fu → ∀ (H : Heap) (locs : List Loc), wI E AR sR H locs (xW E ad iv chx rdx tp rf hd (adn 10) tr (adg 8) dy im ++ (gW E adg ivg grg pag mog sgg tng ++ (tW E adn ivn hrn csn (sK K) ++ (dW E add ivd odd cod wtd tnd gnd)))) → ∀ ls : Array Slot, lv_has ls 9 [(0, .ref (ad 11)), (1, .int (nI k)), (2, .int (nI y)), (3, .ref (add 0)), (4, .int (nI ((128 * k) + y))), (5, .int (nI i))] → W pR l eR (rmF 2 0 0) sR mR aR bR tR cR H locs 0 0 QR (F0 mR 93 ls []) := by
      intro fu
      induction fu with
      | zero =>
        intro i c2 r2 TB chx rdx hi hch hrd hfold hpk hfu
        exact absurd hfu (Nat.not_lt_zero _)
      | succ fu ih_93 =>
        intro i c2 r2 TB chx rdx hi hch hrd hfold hpk hfu H locs hI ls hl
        subst hch
        subst hrd
        refine lv_iload hxR hbR dX0_least_2_93 (lv_at hl 5 rfl) ?_
        refine lv_aload_n hxR hbR dX0_least_2_95 rfl (lv_at hl 0 rfl) ?_
        refine r_get hxR hbR hts hown hK hI okX0 (ci := 0) rfl 8 (he_l xW_o) 3 (by decide) q267 rfl (v := .ref (adg 8)) rfl dX0_least_2_96 ?_
        refine r_get hxR hbR hts hown hK hI okX2 (ci := 2) rfl (14 + 0) (he_r (Nat.le_of_ble_eq_true rfl) (Nat.le_of_ble_eq_true rfl) (he_l gW_o)) 5 (by decide) q197 rfl (v := .int (nI ((GL K n st).length))) (al hc) dX0_least_2_99 ?_
        refine lv_icmp_ge (tgt := 248) hxR hbR dX0_least_2_102 (by decide) (fun c_102 => ?_) (fun c_102 => ?_)
        · skip
          have c_102 : ((GL K n st).length) ≤ i := (n_le (a := ((GL K n st).length)) (b := i) (by omega) (by omega)).mp c_102
          have hI : wI E AR sR H locs (xW E ad iv (va_up ch (128 * k + y) (nI c2)) (va_up rd (128 * k + y) (nI r2)) tp rf hd (adn 10) tr (adg 8) dy im ++ (gW E adg ivg grg pag mog sgg tng ++ (tW E adn ivn hrn csn (sK K) ++ (dW E add ivd odd cod wtd tnd gnd)))) := by exact hI
          exact hret (c2, r2) _ _ _ _ _ _ dX0_least_2_248 hI (by show pkR (lsV (GL K n st) (fun j => (comL hrn n).getD j 0) csn hrn n k y) c2 r2 (bitsN y 8 + (n - k)); first | exact (foldl_e3 (by omega) hfold) ▸ hpk | exact ((lsG_none _ _ (fun g hg hz => (hL.2.2 g (List.mem_of_mem_drop hg)).2 (by rw [hy0 (by omega)] at hz; rw [nd_z] at hz; exact hz))).symm.trans hfold) ▸ hpk) (Nat.le_of_ble_eq_true rfl) (Nat.le_of_ble_eq_true rfl)
        · skip
          have c_102 : i < ((GL K n st).length) := Nat.lt_of_not_le (fun zz => c_102 ((n_le (a := ((GL K n st).length)) (b := i) (by omega) (by omega)).mpr zz))
          refine lv_iload_n hxR hbR dX0_least_2_105 rfl (lv_at hl 1 rfl) ?_
          refine lv_if_le (tgt := 248) hxR hbR dX0_least_2_106 (by decide) (fun c_106 => ?_) (fun c_106 => ?_)
          · skip
            have c_106 : k ≤ 0 := (n_le (a := k) (b := 0) (by omega) (by omega)).mp c_106
            have hI : wI E AR sR H locs (xW E ad iv (va_up ch (128 * k + y) (nI c2)) (va_up rd (128 * k + y) (nI r2)) tp rf hd (adn 10) tr (adg 8) dy im ++ (gW E adg ivg grg pag mog sgg tng ++ (tW E adn ivn hrn csn (sK K) ++ (dW E add ivd odd cod wtd tnd gnd)))) := by exact hI
            exact hret (c2, r2) _ _ _ _ _ _ dX0_least_2_248 hI (by show pkR (lsV (GL K n st) (fun j => (comL hrn n).getD j 0) csn hrn n k y) c2 r2 (bitsN y 8 + (n - k)); first | exact (foldl_e3 (by omega) hfold) ▸ hpk | exact ((lsG_none _ _ (fun g hg hz => (hL.2.2 g (List.mem_of_mem_drop hg)).2 (by rw [hy0 (by omega)] at hz; rw [nd_z] at hz; exact hz))).symm.trans hfold) ▸ hpk) (Nat.le_of_ble_eq_true rfl) (Nat.le_of_ble_eq_true rfl)
          · skip
            have c_106 : 0 < k := Nat.lt_of_not_le (fun zz => c_106 ((n_le (a := k) (b := 0) (by omega) (by omega)).mpr zz))
            refine lv_aload_n hxR hbR dX0_least_2_109 rfl (lv_at hl 0 rfl) ?_
            refine r_get hxR hbR hts hown hK hI okX0 (ci := 0) rfl 8 (he_l xW_o) 3 (by decide) q267 rfl (v := .ref (adg 8)) rfl dX0_least_2_110 ?_
            refine lv_iload hxR hbR dX0_least_2_113 (lv_at hl 5 rfl) ?_
            refine lv_iload_n hxR hbR dX0_least_2_115 rfl (lv_at hl 2 rfl) ?_
            refine kVI (n := 2) (As := [.int (nI i), .int (nI y)]) (rest := []) (fun w => (xW E ad iv (va_up ch (128 * k + y) (nI c2)) (va_up rd (128 * k + y) (nI r2)) tp rf hd (adn 10) tr (adg 8) dy im) ++ (w ++ (tW E adn ivn hrn csn (sK K) ++ (dW E add ivd odd cod wtd tnd gnd)))) hxR hbR hmlR hts hown hK hA hl.1 (isCtx.mk _ _) hI (c2_isOf l E adg ivg grg pag mog sgg tng (GL K n st) i y hc (by first | omega | with_reducible assumption) (by first | omega | with_reducible assumption) (by first | omega | with_reducible assumption)) (lw_V q1279 q663 q664 q83 q665) ⟨rfl, by decide +kernel⟩ 0 2 rfl rfl gW_o rfl (Nat.le_of_ble_eq_true rfl) (Nat.le_of_ble_eq_true rfl) ⟨Nat.le_of_ble_eq_true rfl, Nat.le_of_ble_eq_true rfl⟩ (Nat.le_of_ble_eq_true rfl) dX0_least_2_116 (fun r_116 u H locs hp hI hz => ?_)
            have hI : wI E AR sR H locs (xW E ad iv (va_up ch (128 * k + y) (nI c2)) (va_up rd (128 * k + y) (nI r2)) tp rf hd (adn 10) tr (adg 8) dy im ++ (gW E adg ivg grg pag mog sgg tng ++ (tW E adn ivn hrn csn (sK K) ++ (dW E add ivd odd cod wtd tnd gnd)))) := hI
            have hp : r_116 = b2i (decide (nd ((GL K n st).getD i 0) y = 0)) := hp
            have hr_116 := hp
            rcases b2i_cases hr_116 with ⟨c_116, rfl⟩ | ⟨c_116, rfl⟩
            · skip
              have c_116 : nd ((GL K n st).getD i 0) y = 0 := of_decide_eq_true c_116
              refine lv_if_ne (tgt := 125) hxR hbR dX0_least_2_119 (by decide) (fun _ => ?_) (fun c => absurd c (by decide))
              have hcp := hcom (k - 1) (by omega)
              have hgm := getD_mem (L := (GL K n st)) (i := i) (by omega)
              have hgl := hL.lt (j := i) (by omega)
              obtain ⟨c1, r1, ea1, eb1, hp1⟩ := hpG _ hgm c_116
              obtain ⟨h9, hh9, eh9, hl9⟩ := hlate (by omega)
              have hg0 := hL.ne (j := i) (by omega)
              have hq1 := hp1.2.1
              have hq2 := hp1.2.2
              have hq3 := hpk.2.1
              have hq4 := hpk.2.2
              obtain ⟨l8, hl8, el⟩ := lv_n hcost (fun p hp hb => hl9 p hp (sub_bit c_116 hb)) hh9 n (Nat.le_refl n)
              have hba := nd_add y (by omega) _ hgl c_116
              have hbn := bits_nd c_116 8
              have hb1 := bits_pos 8 (show ((GL K n st).getD i 0) < 2 ^ 8 by omega) (hL.ne (j := i) (by omega))
              have hmn := bitsN_mono (S := ((GL K n st).getD i 0)) (a := n) (b := 8) (by omega)
              have hkN : lsN (fun j => (comL hrn n).getD j 0) hrn k = hrn ((comL hrn n).getD (k - 1) 0) := if_neg (by omega)
              rw [← eh9] at el
              have hpW := pkR_W (g := ((GL K n st).getD i 0)) (b := bitsN ((GL K n st).getD i 0) 8) (now := lsN (fun j => (comL hrn n).getD j 0) hrn k) (by rw [hkN]; exact el) (by omega) hp1 (by omega) (by omega)
              have hpW : pkR (lsW csn hrn (lsN (fun j => (comL hrn n).getD j 0) hrn k) ((GL K n st).getD i 0) n + lsV (GL K n st) (fun j => (comL hrn n).getD j 0) csn hrn n k (nd y ((GL K n st).getD i 0))) (l8 + c1) (r1 + 1) (bitsN y 8 + (n - k)) := (show bitsN (nd y ((GL K n st).getD i 0)) 8 + (n - k) + bitsN ((GL K n st).getD i 0) 8 = bitsN y 8 + (n - k) by omega) ▸ hpW
              refine lv_iload hxR hbR dX0_least_2_125 (lv_at hl 4 rfl) ?_
              refine lv_aload_n hxR hbR dX0_least_2_127 rfl (lv_at hl 0 rfl) ?_
              refine r_get hxR hbR hts hown hK hI okX0 (ci := 0) rfl 8 (he_l xW_o) 3 (by decide) q267 rfl (v := .ref (adg 8)) rfl dX0_least_2_128 ?_
              refine r_get hxR hbR hts hown hK hI okX2 (ci := 2) rfl (14 + 0) (he_r (Nat.le_of_ble_eq_true rfl) (Nat.le_of_ble_eq_true rfl) (he_l gW_o)) 0 (by decide) q190 rfl (v := .ref (adg 0)) rfl dX0_least_2_131 ?_
              refine lv_iload hxR hbR dX0_least_2_134 (lv_at hl 5 rfl) ?_
              refine r_iald hxR hbR hK hI (14 + 1) (n := 35) (J := i) (f := grg) (v := nI ((GL K n st).getD i 0)) (he_r (Nat.le_of_ble_eq_true rfl) (Nat.le_of_ble_eq_true rfl) (he_l (gW_g0 rfl))) (by omega) (by decide) (hL.at (by omega)) dX0_least_2_136 ?_
              refine lv_isub hxR hbR dX0_least_2_137 ?_
              refine lv_as (y := nI (128 * k + nd y ((GL K n st).getD i 0))) (by rw [pk_sub (by omega)]; exact congrArg nI (by omega)) ?_
              refine lv_istore (lv' := [(6, .int (nI (128 * k + nd y ((GL K n st).getD i 0)))), (0, .ref (ad 11)), (1, .int (nI k)), (2, .int (nI y)), (3, .ref (add 0)), (4, .int (nI ((128 * k) + y))), (5, .int (nI i))]) hxR hbR dX0_least_2_138 hl (by decide) rfl (fun ls hl => ?_)
              refine lv_aload_n hxR hbR dX0_least_2_140 rfl (lv_at hl 1 rfl) ?_
              refine lv_aload_n hxR hbR dX0_least_2_141 rfl (lv_at hl 1 rfl) ?_
              refine r_get hxR hbR hts hown hK hI okX0 (ci := 0) rfl 8 (he_l xW_o) 3 (by decide) q267 rfl (v := .ref (adg 8)) rfl dX0_least_2_142 ?_
              refine r_get hxR hbR hts hown hK hI okX2 (ci := 2) rfl (14 + 0) (he_r (Nat.le_of_ble_eq_true rfl) (Nat.le_of_ble_eq_true rfl) (he_l gW_o)) 0 (by decide) q190 rfl (v := .ref (adg 0)) rfl dX0_least_2_145 ?_
              refine lv_iload hxR hbR dX0_least_2_148 (lv_at hl 6 rfl) ?_
              refine r_iald hxR hbR hK hI (14 + 1) (n := 35) (J := i) (f := grg) (v := nI ((GL K n st).getD i 0)) (he_r (Nat.le_of_ble_eq_true rfl) (Nat.le_of_ble_eq_true rfl) (he_l (gW_g0 rfl))) (by omega) (by decide) (hL.at (by omega)) dX0_least_2_150 ?_
              refine lv_aload_n hxR hbR dX0_least_2_151 rfl (lv_at hl 1 rfl) ?_
              refine r_get hxR hbR hts hown hK hI okX0 (ci := 0) rfl 8 (he_l xW_o) 0 (by decide) q263 rfl (v := .ref (adn 10)) rfl dX0_least_2_152 ?_
              refine r_get hxR hbR hts hown hK hI okX1 (ci := 1) rfl (14 + (5 + 0)) (he_r (Nat.le_of_ble_eq_true rfl) (Nat.le_of_ble_eq_true rfl) (he_r (Nat.le_of_ble_eq_true rfl) (Nat.le_of_ble_eq_true rfl) (he_l tW_o))) 0 (by decide) q133 rfl (v := .ref (adn 0)) rfl dX0_least_2_155 ?_
              refine lv_aload_n hxR hbR dX0_least_2_158 rfl (lv_at hl 4 rfl) ?_
              refine lv_iload_n hxR hbR dX0_least_2_159 rfl (lv_at hl 2 rfl) ?_
              refine lv_iconst (v := 1) hxR hbR dX0_least_2_160 (by decide) ?_
              refine lv_isub hxR hbR dX0_least_2_161 ?_
              refine lv_as (y := nI (k - 1)) (pk_sub (a := k) (b := 1) (by omega)) ?_
              refine r_iald hxR hbR hK hI (14 + (5 + (4 + 1))) (n := 7) (J := k - 1) (f := odd) (v := nI ((comL hrn n).getD (k - 1) 0)) (he_r (Nat.le_of_ble_eq_true rfl) (Nat.le_of_ble_eq_true rfl) (he_r (Nat.le_of_ble_eq_true rfl) (Nat.le_of_ble_eq_true rfl) (he_r (Nat.le_of_ble_eq_true rfl) (Nat.le_of_ble_eq_true rfl) (dW_g0 rfl)))) (by omega) (by decide) (hord _ (by omega)) dX0_least_2_162 ?_
              refine r_iald hxR hbR hK hI (14 + (5 + 1)) (n := 7) (J := (comL hrn n).getD (k - 1) 0) (f := hrn) (v := hrn ((comL hrn n).getD (k - 1) 0)) (he_r (Nat.le_of_ble_eq_true rfl) (Nat.le_of_ble_eq_true rfl) (he_r (Nat.le_of_ble_eq_true rfl) (Nat.le_of_ble_eq_true rfl) (he_l (tW_g0 rfl)))) (by omega) (by decide) rfl dX0_least_2_163 ?_
              have hI : wI E AR sR _ _ (xW E ad iv (va_up ch (128 * k + y) (nI c2)) (va_up rd (128 * k + y) (nI r2)) tp rf hd (adn 10) tr (adg 8) dy im ++ (tW E adn ivn hrn csn (sK K) ++ (gW E adg ivg grg pag mog sgg tng ++ (dW E add ivd odd cod wtd tnd gnd)))) := wI_pick ([xW E ad iv (va_up ch (128 * k + y) (nI c2)) (va_up rd (128 * k + y) (nI r2)) tp rf hd (adn 10) tr (adg 8) dy im, gW E adg ivg grg pag mog sgg tng, tW E adn ivn hrn csn (sK K), dW E add ivd odd cod wtd tnd gnd]) [0, 2, 1, 3] 4 rfl (by decide) hI
              have hI := wI_w app2 hI
              refine kVI (n := 2) (As := [.int (nI ((GL K n st).getD i 0)), .int (hrn ((comL hrn n).getD (k - 1) 0))]) (rest := []) (fun w => w ++ (gW E adg ivg grg pag mog sgg tng ++ (dW E add ivd odd cod wtd tnd gnd))) hxR hbR hmlR hts hown hK hA hl.1 (isCtx.suf _) hI (c0_leaving l E ad iv (va_up ch (128 * k + y) (nI c2)) (va_up rd (128 * k + y) (nI r2)) tp rf hd tr (adg 8) dy im adn ivn hrn csn K n ((GL K n st).getD i 0) (hrn ((comL hrn n).getD (k - 1) 0)) hn (by first | omega | with_reducible assumption) (by omega)) (lw_V q1274 q1276 qs24 q81 q1277) ⟨rfl, by decide +kernel⟩ 8 0 rfl rfl (he_l xW_o) rfl (Nat.le_of_ble_eq_true rfl) (Nat.le_of_ble_eq_true rfl) ⟨Nat.le_of_ble_eq_true rfl, Nat.le_of_ble_eq_true rfl⟩ (Nat.le_of_ble_eq_true rfl) dX0_least_2_164 (fun r_164 u H locs hp hI hz => ?_)
              have hI := wI_w app2.symm hI
              have hI : wI E AR sR H locs (xW E ad iv (va_up ch (128 * k + y) (nI c2)) (va_up rd (128 * k + y) (nI r2)) tp rf hd (adn 10) tr (adg 8) dy im ++ (tW E adn ivn hrn csn (sK K) ++ (gW E adg ivg grg pag mog sgg tng ++ (dW E add ivd odd cod wtd tnd gnd)))) := hI
              have hI : wI E AR sR _ _ (xW E ad iv (va_up ch (128 * k + y) (nI c2)) (va_up rd (128 * k + y) (nI r2)) tp rf hd (adn 10) tr (adg 8) dy im ++ (gW E adg ivg grg pag mog sgg tng ++ (tW E adn ivn hrn csn (sK K) ++ (dW E add ivd odd cod wtd tnd gnd)))) := wI_pick ([xW E ad iv (va_up ch (128 * k + y) (nI c2)) (va_up rd (128 * k + y) (nI r2)) tp rf hd (adn 10) tr (adg 8) dy im, tW E adn ivn hrn csn (sK K), gW E adg ivg grg pag mog sgg tng, dW E add ivd odd cod wtd tnd gnd]) [0, 2, 1, 3] 4 rfl (by decide) hI
              have hp : r_164 = lvF csn hrn ((GL K n st).getD i 0) (hrn ((comL hrn n).getD (k - 1) 0)) n := hp
              have hr_164 := hp
              subst hr_164
              refine lv_aload_n hxR hbR dX0_least_2_167 rfl (lv_at hl 1 rfl) ?_
              refine r_get hxR hbR hts hown hK hI okX0 (ci := 0) rfl 8 (he_l xW_o) 5 (by decide) q269 rfl (v := .ref (ad 5)) rfl dX0_least_2_168 ?_
              refine lv_iload hxR hbR dX0_least_2_171 (lv_at hl 0 rfl) ?_
              refine r_iald hxR hbR hK hI 9 (n := 1024) (J := 128 * k + nd y ((GL K n st).getD i 0)) (f := va_up ch (128 * k + y) (nI c2)) (v := nI c1) (he_l (xW_g5 rfl)) (by omega) (by decide) (by rw [va_up_n (by omega)]; exact ea1) dX0_least_2_173 ?_
              refine lv_iadd hxR hbR dX0_least_2_174 ?_
              refine lv_as (y := nI (l8 + c1)) (by rw [el, nI_add]) ?_
              refine lv_istore (lv' := [(7, .int (nI (l8 + c1))), (6, .int (nI (128 * k + nd y ((GL K n st).getD i 0)))), (0, .ref (ad 11)), (1, .int (nI k)), (2, .int (nI y)), (3, .ref (add 0)), (4, .int (nI ((128 * k) + y))), (5, .int (nI i))]) hxR hbR dX0_least_2_175 hl (by decide) rfl (fun ls hl => ?_)
              refine lv_aload_n hxR hbR dX0_least_2_177 rfl (lv_at hl 2 rfl) ?_
              refine r_get hxR hbR hts hown hK hI okX0 (ci := 0) rfl 8 (he_l xW_o) 6 (by decide) q270 rfl (v := .ref (ad 6)) rfl dX0_least_2_178 ?_
              refine lv_iload hxR hbR dX0_least_2_181 (lv_at hl 1 rfl) ?_
              refine r_iald hxR hbR hK hI 10 (n := 1024) (J := 128 * k + nd y ((GL K n st).getD i 0)) (f := va_up rd (128 * k + y) (nI r2)) (v := nI r1) (he_l (xW_g6 rfl)) (by omega) (by decide) (by rw [va_up_n (by omega)]; exact eb1) dX0_least_2_183 ?_
              refine lv_iconst (v := 1) hxR hbR dX0_least_2_184 (by decide) ?_
              refine lv_iadd hxR hbR dX0_least_2_185 ?_
              refine lv_as (y := nI (r1 + 1)) (nI_add r1 1) ?_
              refine lv_istore (lv' := [(8, .int (nI (r1 + 1))), (7, .int (nI (l8 + c1))), (6, .int (nI (128 * k + nd y ((GL K n st).getD i 0)))), (0, .ref (ad 11)), (1, .int (nI k)), (2, .int (nI y)), (3, .ref (add 0)), (4, .int (nI ((128 * k) + y))), (5, .int (nI i))]) hxR hbR dX0_least_2_186 hl (by decide) rfl (fun ls hl => ?_)
              refine lv_iload hxR hbR dX0_least_2_188 (lv_at hl 1 rfl) ?_
              refine lv_aload_n hxR hbR dX0_least_2_190 rfl (lv_at hl 3 rfl) ?_
              refine r_get hxR hbR hts hown hK hI okX0 (ci := 0) rfl 8 (he_l xW_o) 5 (by decide) q269 rfl (v := .ref (ad 5)) rfl dX0_least_2_191 ?_
              refine lv_iload hxR hbR dX0_least_2_194 (lv_at hl 7 rfl) ?_
              refine r_iald hxR hbR hK hI 9 (n := 1024) (J := (128 * k) + y) (f := va_up ch (128 * k + y) (nI c2)) (v := nI c2) (he_l (xW_g5 rfl)) (by omega) (by decide) va_up_s dX0_least_2_196 ?_
              refine lv_icmp_lt (tgt := 224) hxR hbR dX0_least_2_197 (by decide) (fun c_197 => ?_) (fun c_197 => ?_)
              · skip
                have c_197 : (l8 + c1) < c2 := (n_lt (a := (l8 + c1)) (b := c2) (by omega) (by omega)).mp c_197
                refine lv_aload_n hxR hbR dX0_least_2_224 rfl (lv_at hl 3 rfl) ?_
                refine r_get hxR hbR hts hown hK hI okX0 (ci := 0) rfl 8 (he_l xW_o) 5 (by decide) q269 rfl (v := .ref (ad 5)) rfl dX0_least_2_225 ?_
                refine lv_iload hxR hbR dX0_least_2_228 (lv_at hl 7 rfl) ?_
                refine lv_iload hxR hbR dX0_least_2_230 (lv_at hl 1 rfl) ?_
                refine r_iast (ws1 := xW E ad iv (va_up (va_up ch (128 * k + y) (nI c2)) ((128 * k) + y) (nI (l8 + c1))) (va_up rd (128 * k + y) (nI r2)) tp rf hd (adn 10) tr (adg 8) dy im ++ (gW E adg ivg grg pag mog sgg tng ++ (tW E adn ivn hrn csn (sK K) ++ (dW E add ivd odd cod wtd tnd gnd)))) hxR hbR hK hI 9 (n := 1024) (J := (128 * k) + y) (f := va_up ch (128 * k + y) (nI c2)) (he_l (xW_g5 rfl)) (by omega) (by decide) (hw_l (Nat.le_of_ble_eq_true rfl) xW_a5) dX0_least_2_232 (fun H locs hI => ?_)
                refine lv_aload_n hxR hbR dX0_least_2_233 rfl (lv_at hl 3 rfl) ?_
                refine r_get hxR hbR hts hown hK hI okX0 (ci := 0) rfl 8 (he_l xW_o) 6 (by decide) q270 rfl (v := .ref (ad 6)) rfl dX0_least_2_234 ?_
                refine lv_iload hxR hbR dX0_least_2_237 (lv_at hl 7 rfl) ?_
                refine lv_iload hxR hbR dX0_least_2_239 (lv_at hl 0 rfl) ?_
                refine r_iast (ws1 := xW E ad iv (va_up (va_up ch (128 * k + y) (nI c2)) ((128 * k) + y) (nI (l8 + c1))) (va_up (va_up rd (128 * k + y) (nI r2)) ((128 * k) + y) (nI (r1 + 1))) tp rf hd (adn 10) tr (adg 8) dy im ++ (gW E adg ivg grg pag mog sgg tng ++ (tW E adn ivn hrn csn (sK K) ++ (dW E add ivd odd cod wtd tnd gnd)))) hxR hbR hK hI 10 (n := 1024) (J := (128 * k) + y) (f := va_up rd (128 * k + y) (nI r2)) (he_l (xW_g6 rfl)) (by omega) (by decide) (hw_l (Nat.le_of_ble_eq_true rfl) xW_a6) dX0_least_2_241 (fun H locs hI => ?_)
                refine lv_iinc (v := nI (i + 1)) (lv' := [(5, .int (nI (i + 1))), (8, .int (nI (r1 + 1))), (7, .int (nI (l8 + c1))), (6, .int (nI (128 * k + nd y ((GL K n st).getD i 0)))), (0, .ref (ad 11)), (1, .int (nI k)), (2, .int (nI y)), (3, .ref (add 0)), (4, .int (nI ((128 * k) + y)))]) hxR hbR dX0_least_2_242 hl (k := 8) rfl (show nI i + 1 = nI (i + 1) from nI_add _ 1) (by decide) rfl (fun ls hl => ?_)
                refine lv_goto (tgt := 93) hxR hbR dX0_least_2_245 (by decide) ?_
                exact ih_93 (i + 1) (l8 + c1) (r1 + 1) (lsW csn hrn (lsN (fun j => (comL hrn n).getD j 0) hrn k) ((GL K n st).getD i 0) n + lsV (GL K n st) (fun j => (comL hrn n).getD j 0) csn hrn n k (nd y ((GL K n st).getD i 0))) (va_up (va_up ch (128 * k + y) (nI c2)) ((128 * k) + y) (nI (l8 + c1))) (va_up (va_up rd (128 * k + y) (nI r2)) ((128 * k) + y) (nI (r1 + 1))) (by first | omega | with_reducible assumption) (by first | rfl | exact va_up_up) (by first | rfl | exact va_up_up) (by first | (have e9 := foldl_d3 c_102 hfold; rw [lsG_n c_116] at e9; exact e9) | exact (lsG_a c_116 ((pkR_lt hpW hpk (by omega)).mpr (by omega))) ▸ foldl_d3 c_102 hfold | exact (lsG_b c_116 (Classical.not_not.mp (fun z => by have := (pkR_lt hpW hpk (by omega)).mp z; omega))) ▸ foldl_d3 c_102 hfold) (by first | exact hpk | exact hpW) (by omega) _ _ hI _ (lv_sub hl [4, 5, 6, 7, 8, 0] rfl)
              · skip
                have c_197 : c2 ≤ (l8 + c1) := Nat.le_of_not_lt (fun zz => c_197 ((n_lt (a := (l8 + c1)) (b := c2) (by omega) (by omega)).mpr zz))
                refine lv_iload hxR hbR dX0_least_2_200 (lv_at hl 1 rfl) ?_
                refine lv_aload_n hxR hbR dX0_least_2_202 rfl (lv_at hl 3 rfl) ?_
                refine r_get hxR hbR hts hown hK hI okX0 (ci := 0) rfl 8 (he_l xW_o) 5 (by decide) q269 rfl (v := .ref (ad 5)) rfl dX0_least_2_203 ?_
                refine lv_iload hxR hbR dX0_least_2_206 (lv_at hl 7 rfl) ?_
                refine r_iald hxR hbR hK hI 9 (n := 1024) (J := (128 * k) + y) (f := va_up ch (128 * k + y) (nI c2)) (v := nI c2) (he_l (xW_g5 rfl)) (by omega) (by decide) va_up_s dX0_least_2_208 ?_
                refine lv_icmp_ne (tgt := 242) hxR hbR dX0_least_2_209 (by decide) (fun c_209 => ?_) (fun c_209 => ?_)
                · skip
                  have c_209 : ¬ (l8 + c1) = c2 := fun zz => c_209 ((n_eq (a := (l8 + c1)) (b := c2) (by omega) (by omega)).mpr zz)
                  refine lv_iinc (v := nI (i + 1)) (lv' := [(5, .int (nI (i + 1))), (8, .int (nI (r1 + 1))), (7, .int (nI (l8 + c1))), (6, .int (nI (128 * k + nd y ((GL K n st).getD i 0)))), (0, .ref (ad 11)), (1, .int (nI k)), (2, .int (nI y)), (3, .ref (add 0)), (4, .int (nI ((128 * k) + y)))]) hxR hbR dX0_least_2_242 hl (k := 8) rfl (show nI i + 1 = nI (i + 1) from nI_add _ 1) (by decide) rfl (fun ls hl => ?_)
                  refine lv_goto (tgt := 93) hxR hbR dX0_least_2_245 (by decide) ?_
                  exact ih_93 (i + 1) c2 r2 TB (va_up ch (128 * k + y) (nI c2)) (va_up rd (128 * k + y) (nI r2)) (by first | omega | with_reducible assumption) (by first | rfl | exact va_up_up) (by first | rfl | exact va_up_up) (by first | (have e9 := foldl_d3 c_102 hfold; rw [lsG_n c_116] at e9; exact e9) | exact (lsG_a c_116 ((pkR_lt hpW hpk (by omega)).mpr (by omega))) ▸ foldl_d3 c_102 hfold | exact (lsG_b c_116 (Classical.not_not.mp (fun z => by have := (pkR_lt hpW hpk (by omega)).mp z; omega))) ▸ foldl_d3 c_102 hfold) (by first | exact hpk | exact hpW) (by omega) _ _ hI _ (lv_sub hl [4, 5, 6, 7, 8, 0] rfl)
                · skip
                  have c_209 : (l8 + c1) = c2 := (n_eq (a := (l8 + c1)) (b := c2) (by omega) (by omega)).mp c_209
                  refine lv_iload hxR hbR dX0_least_2_212 (lv_at hl 0 rfl) ?_
                  refine lv_aload_n hxR hbR dX0_least_2_214 rfl (lv_at hl 3 rfl) ?_
                  refine r_get hxR hbR hts hown hK hI okX0 (ci := 0) rfl 8 (he_l xW_o) 6 (by decide) q270 rfl (v := .ref (ad 6)) rfl dX0_least_2_215 ?_
                  refine lv_iload hxR hbR dX0_least_2_218 (lv_at hl 7 rfl) ?_
                  refine r_iald hxR hbR hK hI 10 (n := 1024) (J := (128 * k) + y) (f := va_up rd (128 * k + y) (nI r2)) (v := nI r2) (he_l (xW_g6 rfl)) (by omega) (by decide) va_up_s dX0_least_2_220 ?_
                  refine lv_icmp_le (tgt := 242) hxR hbR dX0_least_2_221 (by decide) (fun c_221 => ?_) (fun c_221 => ?_)
                  · skip
                    have c_221 : (r1 + 1) ≤ r2 := (n_le (a := (r1 + 1)) (b := r2) (by omega) (by omega)).mp c_221
                    refine lv_iinc (v := nI (i + 1)) (lv' := [(5, .int (nI (i + 1))), (8, .int (nI (r1 + 1))), (7, .int (nI (l8 + c1))), (6, .int (nI (128 * k + nd y ((GL K n st).getD i 0)))), (0, .ref (ad 11)), (1, .int (nI k)), (2, .int (nI y)), (3, .ref (add 0)), (4, .int (nI ((128 * k) + y)))]) hxR hbR dX0_least_2_242 hl (k := 8) rfl (show nI i + 1 = nI (i + 1) from nI_add _ 1) (by decide) rfl (fun ls hl => ?_)
                    refine lv_goto (tgt := 93) hxR hbR dX0_least_2_245 (by decide) ?_
                    exact ih_93 (i + 1) c2 r2 TB (va_up ch (128 * k + y) (nI c2)) (va_up rd (128 * k + y) (nI r2)) (by first | omega | with_reducible assumption) (by first | rfl | exact va_up_up) (by first | rfl | exact va_up_up) (by first | (have e9 := foldl_d3 c_102 hfold; rw [lsG_n c_116] at e9; exact e9) | exact (lsG_a c_116 ((pkR_lt hpW hpk (by omega)).mpr (by omega))) ▸ foldl_d3 c_102 hfold | exact (lsG_b c_116 (Classical.not_not.mp (fun z => by have := (pkR_lt hpW hpk (by omega)).mp z; omega))) ▸ foldl_d3 c_102 hfold) (by first | exact hpk | exact hpW) (by omega) _ _ hI _ (lv_sub hl [4, 5, 6, 7, 8, 0] rfl)
                  · skip
                    have c_221 : r2 < (r1 + 1) := Nat.lt_of_not_le (fun zz => c_221 ((n_le (a := (r1 + 1)) (b := r2) (by omega) (by omega)).mpr zz))
                    refine lv_aload_n hxR hbR dX0_least_2_224 rfl (lv_at hl 3 rfl) ?_
                    refine r_get hxR hbR hts hown hK hI okX0 (ci := 0) rfl 8 (he_l xW_o) 5 (by decide) q269 rfl (v := .ref (ad 5)) rfl dX0_least_2_225 ?_
                    refine lv_iload hxR hbR dX0_least_2_228 (lv_at hl 7 rfl) ?_
                    refine lv_iload hxR hbR dX0_least_2_230 (lv_at hl 1 rfl) ?_
                    refine r_iast (ws1 := xW E ad iv (va_up (va_up ch (128 * k + y) (nI c2)) ((128 * k) + y) (nI (l8 + c1))) (va_up rd (128 * k + y) (nI r2)) tp rf hd (adn 10) tr (adg 8) dy im ++ (gW E adg ivg grg pag mog sgg tng ++ (tW E adn ivn hrn csn (sK K) ++ (dW E add ivd odd cod wtd tnd gnd)))) hxR hbR hK hI 9 (n := 1024) (J := (128 * k) + y) (f := va_up ch (128 * k + y) (nI c2)) (he_l (xW_g5 rfl)) (by omega) (by decide) (hw_l (Nat.le_of_ble_eq_true rfl) xW_a5) dX0_least_2_232 (fun H locs hI => ?_)
                    refine lv_aload_n hxR hbR dX0_least_2_233 rfl (lv_at hl 3 rfl) ?_
                    refine r_get hxR hbR hts hown hK hI okX0 (ci := 0) rfl 8 (he_l xW_o) 6 (by decide) q270 rfl (v := .ref (ad 6)) rfl dX0_least_2_234 ?_
                    refine lv_iload hxR hbR dX0_least_2_237 (lv_at hl 7 rfl) ?_
                    refine lv_iload hxR hbR dX0_least_2_239 (lv_at hl 0 rfl) ?_
                    refine r_iast (ws1 := xW E ad iv (va_up (va_up ch (128 * k + y) (nI c2)) ((128 * k) + y) (nI (l8 + c1))) (va_up (va_up rd (128 * k + y) (nI r2)) ((128 * k) + y) (nI (r1 + 1))) tp rf hd (adn 10) tr (adg 8) dy im ++ (gW E adg ivg grg pag mog sgg tng ++ (tW E adn ivn hrn csn (sK K) ++ (dW E add ivd odd cod wtd tnd gnd)))) hxR hbR hK hI 10 (n := 1024) (J := (128 * k) + y) (f := va_up rd (128 * k + y) (nI r2)) (he_l (xW_g6 rfl)) (by omega) (by decide) (hw_l (Nat.le_of_ble_eq_true rfl) xW_a6) dX0_least_2_241 (fun H locs hI => ?_)
                    refine lv_iinc (v := nI (i + 1)) (lv' := [(5, .int (nI (i + 1))), (8, .int (nI (r1 + 1))), (7, .int (nI (l8 + c1))), (6, .int (nI (128 * k + nd y ((GL K n st).getD i 0)))), (0, .ref (ad 11)), (1, .int (nI k)), (2, .int (nI y)), (3, .ref (add 0)), (4, .int (nI ((128 * k) + y)))]) hxR hbR dX0_least_2_242 hl (k := 8) rfl (show nI i + 1 = nI (i + 1) from nI_add _ 1) (by decide) rfl (fun ls hl => ?_)
                    refine lv_goto (tgt := 93) hxR hbR dX0_least_2_245 (by decide) ?_
                    exact ih_93 (i + 1) (l8 + c1) (r1 + 1) (lsW csn hrn (lsN (fun j => (comL hrn n).getD j 0) hrn k) ((GL K n st).getD i 0) n + lsV (GL K n st) (fun j => (comL hrn n).getD j 0) csn hrn n k (nd y ((GL K n st).getD i 0))) (va_up (va_up ch (128 * k + y) (nI c2)) ((128 * k) + y) (nI (l8 + c1))) (va_up (va_up rd (128 * k + y) (nI r2)) ((128 * k) + y) (nI (r1 + 1))) (by first | omega | with_reducible assumption) (by first | rfl | exact va_up_up) (by first | rfl | exact va_up_up) (by first | (have e9 := foldl_d3 c_102 hfold; rw [lsG_n c_116] at e9; exact e9) | exact (lsG_a c_116 ((pkR_lt hpW hpk (by omega)).mpr (by omega))) ▸ foldl_d3 c_102 hfold | exact (lsG_b c_116 (Classical.not_not.mp (fun z => by have := (pkR_lt hpW hpk (by omega)).mp z; omega))) ▸ foldl_d3 c_102 hfold) (by first | exact hpk | exact hpW) (by omega) _ _ hI _ (lv_sub hl [4, 5, 6, 7, 8, 0] rfl)
            · skip
              have c_116 : ¬ nd ((GL K n st).getD i 0) y = 0 := of_decide_eq_false c_116
              refine lv_if_ne (tgt := 125) hxR hbR dX0_least_2_119 (by decide) (fun c => absurd c (by decide)) (fun _ => ?_)
              refine lv_goto (tgt := 242) hxR hbR dX0_least_2_122 (by decide) ?_
              refine lv_iinc (v := nI (i + 1)) (lv' := [(5, .int (nI (i + 1))), (0, .ref (ad 11)), (1, .int (nI k)), (2, .int (nI y)), (3, .ref (add 0)), (4, .int (nI ((128 * k) + y)))]) hxR hbR dX0_least_2_242 hl (k := 5) rfl (show nI i + 1 = nI (i + 1) from nI_add _ 1) (by decide) rfl (fun ls hl => ?_)
              refine lv_goto (tgt := 93) hxR hbR dX0_least_2_245 (by decide) ?_
              exact ih_93 (i + 1) c2 r2 TB (va_up ch (128 * k + y) (nI c2)) (va_up rd (128 * k + y) (nI r2)) (by first | omega | with_reducible assumption) (by first | rfl | exact va_up_up) (by first | rfl | exact va_up_up) (by first | (have e9 := foldl_d3 c_102 hfold; rw [lsG_n c_116] at e9; exact e9) | exact (lsG_a c_116 ((pkR_lt hpW hpk (by omega)).mpr (by omega))) ▸ foldl_d3 c_102 hfold | exact (lsG_b c_116 (Classical.not_not.mp (fun z => by have := (pkR_lt hpW hpk (by omega)).mp z; omega))) ▸ foldl_d3 c_102 hfold) (by first | exact hpk | exact hpW) (by omega) _ _ hI _ (lv_sub hl [1, 2, 3, 4, 5, 0] rfl)
    exact lp_93 _ 0 c0 r0 (lsB (GL K n st) (fun j => (comL hrn n).getD j 0) csn hrn n k y) (va_up ch ((128 * k) + y) (lvF csn hrn y 24 n)) (va_up rd ((128 * k) + y) 0) (by first | omega | with_reducible assumption) (by first | rfl | rw [ec0]) (by first | rfl | rw [er0]; rfl) hVe hp0 (Nat.lt_succ_self _) _ _ hI _ (lv_sub hl [2, 3, 4, 5, 1, 0] rfl)
