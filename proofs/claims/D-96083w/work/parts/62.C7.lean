section KWO
variable {p : Program} {l : Launch} {e : Env} {F1 mc1 ms1 : Nat} {s : State} {m : MethodId} {args : Array Value} {below : List Frame} {meth : Method} {c : Code} {H : Heap} {locs : List Loc} {cells slots : Nat} {Q : State → Prop} {cc : ByteArray} {pc nL1 index n : Nat} {ls : Array Slot} {rest : List Value} {E : En} {A : Nat → Prop} {wc : va_W} {own : String} {As : List Value} {b q kd : Nat} {a : Int32}
theorem kWorth {adg adn : Nat → Nat} {ivg grg pag mog sgg ivn hrn csn : Nat → Int32} {K : Nat → Nat → Int32} {N Z : Nat} (f : va_W → va_W) (hexec : p.tables.exec = Jvm.exec) (hb : c.code = cc) (hml : c.maxLocals = nL1) (hts : ∀ w ∈ lw_all, w.before args s = true) (hown : s.vm.findClass RX9 = some m.cls) (hK : KX E A s) (hA : ∀ q, s.heap.size ≤ q → A q) (hl : ls.size = nL1) (hf : isCtx f) (hk : kd = 2 ∨ kd = 4) (hn : ivn 3 = nI N) (hn7 : N ≤ 7) (hsg : ∀ p, p < N → sgg p = nI (strS K p N)) (hZ : Z < 2 ^ 31) (hI : wI E A s H locs (f (manW E q kd a ++ (gW E adg ivg grg pag mog sgg (some (adn 10)) ++ (tW E adn ivn hrn csn (sK K))))))
    (hF : 3 ≤ F1) (hcs : cells ≤ mc1 ∧ slots ≤ ms1) (hroom : (rest.map fun v => v.category).sum ≤ 8) (hdg : decode cc pc = .ok (.invokevirtual 25, 3))
    (kk : ∀ (H1 : Heap) (locs1 : List Loc), wI E A s H1 locs1 (f (manW E q kd a ++ (gW E adg ivg grg pag mog sgg (some (adn 10)) ++ (tW E adn ivn hrn csn (sK K))))) → W p l e (rmF F1 mc1 ms1) s m args below meth c H1 locs1 cells slots Q (F0 m (pc + 3) ls (.int (wV K csn N kd Z) :: rest))) : W p l e (rmF F1 mc1 ms1) s m args below meth c H locs cells slots Q (F0 m pc ls (.int (nI Z) :: .ref (adg 8) :: .ref q :: rest)) := by
  rcases hk with e | e
  · subst e
    refine kVI (n := 2) (As := [.ref (adg 8), .int (nI Z)]) (rest := rest) f hexec hb hml hts hown hK hA hl hf hI (c9_worth l E q 2 a adg ivg grg pag mog sgg adn ivn hrn csn K N 0 Z hn hn7 hZ) (lw_V q701 q702 q703 q100 q713) ⟨rfl, by decide +kernel⟩ 0 8 rfl rfl (he_l manW_o) rfl hF (Nat.le_of_ble_eq_true rfl) hcs hroom hdg (fun r u H1 locs1 hp hI hz => ?_)
    subst hp
    exact kk H1 locs1 hI
  · subst e
    refine kUI (n := 2) (x := yX9_worth) (C := RX11) (As := [.ref (adg 8), .int (nI Z)]) (rest := rest) f hexec hb hml hts hown hK hA hl hf hI (c11_worth l E q 4 a adg ivg grg pag mog sgg adn ivn hrn csn K N 0 Z hn hn7 hsg hZ) (lw_U q701 q704 q702 q706 q707 q102 q708) q713 ⟨by decide +kernel, by decide +kernel, by decide +kernel⟩ 0 10 rfl rfl (he_l manW_o) rfl hF (Nat.le_of_ble_eq_true rfl) hcs hroom hdg (fun r u H1 locs1 hp hI hz => ?_)
    subst hp
    exact kk H1 locs1 hI
end KWO
theorem c8_sends (l : Launch) (E : En) (q : Nat) (kd : Nat) (a : Int32) (adg : Nat → Nat) (ivg : Nat → Int32) (grg : Nat → Int32) (pag : Nat → Int32) (mog : Nat → Int32) (sgg : Nat → Int32) (adn : Nat → Nat) (ivn : Nat → Int32) (hrn : Nat → Int32) (csn : Nat → Int32) (K : Nat → Nat → Int32) (n st Y tc k9 : Nat) (hn : ivn 3 = nI n) (hc : ivg 5 = nI (GL K n st).length) (hn7 : n ≤ 7) (hL : gL grg (GL K n st)) (hM : (∀ Z, Z < 2 ^ n → mog Z = nI (mostV (GL K n st) Z))) (hsg : (∀ p, p < n → sgg p = nI (strS K p n))) (hY : Y < 2 ^ n) (htc : tc < 100) (h9 : k9 < 100) (ha : a = nI k9) : CtI l E yX8_sends cX8_sends 4 .int 2 0 0 [.ref q, .ref (adg 8), .int (nI Y), .int (nI tc)] (manW E q kd a ++ (gW E adg ivg grg pag mog sgg (some (adn 10)) ++ (tW E adn ivn hrn csn (sK K)))) (fun (r : Int32) (u : Unit) => r = nI (firstL Y (GL K n st))) (fun (u : Unit) => manW E q kd a ++ (gW E adg ivg grg pag mog sgg (some (adn 10)) ++ (tW E adn ivn hrn csn (sK K)))) := by
  have h27 : 2 ^ n ≤ 2 ^ 7 := Nat.pow_le_pow_right (by decide) hn7
  have hl35 := hL.2.1
  refine CtI.of (by decide +kernel) (Nat.le_of_ble_eq_true rfl) ?_
  intro pR eR sR mR aR bR tR cR AR ls QR hxR hbR hmlR hts hown hlk hnm hA hK hI hl hret
  have hl : lv_has ls 4 [(0, .ref q), (1, .ref (adg 8)), (2, .int (nI Y)), (3, .int (nI tc))] := hl
  refine lv_aload_n hxR hbR dX8_sends_0 rfl (lv_at hl 1 rfl) ?_
  refine lv_iload_n hxR hbR dX8_sends_1 rfl (lv_at hl 2 rfl) ?_
  refine kVI (n := 1) (As := [.int (nI Y)]) (rest := []) (fun w => (manW E q kd a) ++ (w ++ (tW E adn ivn hrn csn (sK K)))) hxR hbR hmlR hts hown hK hA hl.1 (isCtx.mk _ _) hI (c2_first l E adg ivg grg pag mog sgg (some (adn 10)) (GL K n st) Y hc (by first | omega | with_reducible assumption) (by first | omega | with_reducible assumption)) (lw_V q724 q725 q726 q83 q727) ⟨rfl, by decide +kernel⟩ 0 2 rfl rfl gW_o rfl (Nat.le_of_ble_eq_true rfl) (Nat.le_of_ble_eq_true rfl) ⟨Nat.le_of_ble_eq_true rfl, Nat.le_of_ble_eq_true rfl⟩ (Nat.le_of_ble_eq_true rfl) dX8_sends_2 (fun r_2 u H locs hp hI hz => ?_)
  have hI : wI E AR sR H locs (manW E q kd a ++ (gW E adg ivg grg pag mog sgg (some (adn 10)) ++ (tW E adn ivn hrn csn (sK K)))) := hI
  have hp : r_2 = nI (firstL Y (GL K n st)) := hp
  have hr_2 := hp
  subst hr_2
  exact hret () (nI (firstL Y (GL K n st))) _ _ _ _ _ _ dX8_sends_5 hI (by show (nI (firstL Y (GL K n st))) = nI (firstL Y (GL K n st)); rfl) (Nat.le_of_ble_eq_true rfl) (Nat.le_of_ble_eq_true rfl) rfl

theorem c9_sends (l : Launch) (E : En) (q : Nat) (kd : Nat) (a : Int32) (adg : Nat → Nat) (ivg : Nat → Int32) (grg : Nat → Int32) (pag : Nat → Int32) (mog : Nat → Int32) (sgg : Nat → Int32) (adn : Nat → Nat) (ivn : Nat → Int32) (hrn : Nat → Int32) (csn : Nat → Int32) (K : Nat → Nat → Int32) (n st Y tc k9 : Nat) (hkd : kd = 2 ∨ kd = 4) (hn : ivn 3 = nI n) (hc : ivg 5 = nI (GL K n st).length) (hn7 : n ≤ 7) (hL : gL grg (GL K n st)) (hM : (∀ Z, Z < 2 ^ n → mog Z = nI (mostV (GL K n st) Z))) (hsg : (∀ p, p < n → sgg p = nI (strS K p n))) (hY : Y < 2 ^ n) (htc : tc < 100) (h9 : k9 < 100) (ha : a = nI k9) : CtI l E yX9_sends cX9_sends 8 .int 3 0 0 [.ref q, .ref (adg 8), .int (nI Y), .int (nI tc)] (manW E q kd a ++ (gW E adg ivg grg pag mog sgg (some (adn 10)) ++ (tW E adn ivn hrn csn (sK K)))) (fun (r : Int32) (u : Unit) => r = nI (sentV K csn n st kd k9 Y tc)) (fun (u : Unit) => manW E q kd a ++ (gW E adg ivg grg pag mog sgg (some (adn 10)) ++ (tW E adn ivn hrn csn (sK K)))) := by
  have h27 : 2 ^ n ≤ 2 ^ 7 := Nat.pow_le_pow_right (by decide) hn7
  have hl35 := hL.2.1
  refine CtI.of (by decide +kernel) (Nat.le_of_ble_eq_true rfl) ?_
  intro pR eR sR mR aR bR tR cR AR ls QR hxR hbR hmlR hts hown hlk hnm hA hK hI hl hret
  have hl : lv_has ls 8 [(0, .ref q), (1, .ref (adg 8)), (2, .int (nI Y)), (3, .int (nI tc))] := hl
  refine lv_iconst (v := 0) hxR hbR dX9_sends_0 (by decide) ?_
  refine lv_istore (lv' := [(4, .int 0), (0, .ref q), (1, .ref (adg 8)), (2, .int (nI Y)), (3, .int (nI tc))]) hxR hbR dX9_sends_1 hl (by decide) rfl (fun ls hl => ?_)
  refine lv_iconst (v := 0) hxR hbR dX9_sends_3 (by decide) ?_
  refine lv_istore (lv' := [(5, .int 0), (4, .int 0), (0, .ref q), (1, .ref (adg 8)), (2, .int (nI Y)), (3, .int (nI tc))]) hxR hbR dX9_sends_4 hl (by decide) rfl (fun ls hl => ?_)
  refine lv_iconst (v := 0) hxR hbR dX9_sends_6 (by decide) ?_
  refine lv_istore (lv' := [(6, .int 0), (5, .int 0), (4, .int 0), (0, .ref q), (1, .ref (adg 8)), (2, .int (nI Y)), (3, .int (nI tc))]) hxR hbR dX9_sends_7 hl (by decide) rfl (fun ls hl => ?_)
  have lp_9 : ∀ (fu : Nat) (i : Nat) (b : Nat) (m9 : Int32), (i ≤ (GL K n st).length) → (((GL K n st).drop i).foldl (chooseG K csn n kd Y) b = (GL K n st).foldl (chooseG K csn n kd Y) 0) → (b < 128) → (¬ b = 0 → m9 = wV K csn n kd b) → (GL K n st).length - i < fu → ∀ (H : Heap) (locs : List Loc), wI E AR sR H locs (manW E q kd a ++ (gW E adg ivg grg pag mog sgg (some (adn 10)) ++ (tW E adn ivn hrn csn (sK K)))) → ∀ ls : Array Slot, lv_has ls 8 [(0, .ref q), (1, .ref (adg 8)), (2, .int (nI Y)), (3, .int (nI tc)), (4, .int (nI b)), (5, .int m9), (6, .int (nI i))] → W pR l eR (rmF 3 0 0) sR mR aR bR tR cR H locs 0 0 QR (F0 mR 9 ls []) := by
    intro fu
    induction fu with
    | zero =>
      intro i b m9 hi hbb hb8 hm hfu
      exact absurd hfu (Nat.not_lt_zero _)
    | succ fu ih_9 =>
      intro i b m9 hi hbb hb8 hm hfu H locs hI ls hl
      refine lv_iload hxR hbR dX9_sends_9 (lv_at hl 6 rfl) ?_
      refine lv_aload_n hxR hbR dX9_sends_11 rfl (lv_at hl 1 rfl) ?_
      refine r_get hxR hbR hts hown hK hI okX2 (ci := 2) rfl (1 + 0) (he_r (Nat.le_of_ble_eq_true rfl) (Nat.le_of_ble_eq_true rfl) (he_l gW_o)) 5 (by decide) q196 rfl (v := .int (nI ((GL K n st).length))) (al hc) dX9_sends_12 ?_
      refine lv_icmp_ge (tgt := 76) hxR hbR dX9_sends_15 (by decide) (fun c_15 => ?_) (fun c_15 => ?_)
      · skip
        have c_15 : ((GL K n st).length) ≤ i := (n_le (a := ((GL K n st).length)) (b := i) (by omega) (by omega)).mp c_15
        refine lv_iload hxR hbR dX9_sends_76 (lv_at hl 4 rfl) ?_
        exact hret () (nI b) _ _ _ _ _ _ dX9_sends_78 hI (by show (nI b) = nI (sentV K csn n st kd k9 Y tc); rw [sentV, if_neg (by omega), if_neg (by omega), if_neg (by omega), foldl_e (by omega) hbb]) (Nat.le_of_ble_eq_true rfl) (Nat.le_of_ble_eq_true rfl) rfl
      · skip
        have c_15 : i < ((GL K n st).length) := Nat.lt_of_not_le (fun zz => c_15 ((n_le (a := ((GL K n st).length)) (b := i) (by omega) (by omega)).mpr zz))
        refine lv_aload_n hxR hbR dX9_sends_18 rfl (lv_at hl 1 rfl) ?_
        refine lv_iload hxR hbR dX9_sends_19 (lv_at hl 6 rfl) ?_
        refine lv_iload_n hxR hbR dX9_sends_21 rfl (lv_at hl 2 rfl) ?_
        refine kVI (n := 2) (As := [.int (nI i), .int (nI Y)]) (rest := []) (fun w => (manW E q kd a) ++ (w ++ (tW E adn ivn hrn csn (sK K)))) hxR hbR hmlR hts hown hK hA hl.1 (isCtx.mk _ _) hI (c2_isOf l E adg ivg grg pag mog sgg (some (adn 10)) (GL K n st) i Y hc (by first | omega | with_reducible assumption) (by first | omega | with_reducible assumption) (by first | omega | with_reducible assumption)) (lw_V q700 q663 q664 q83 q665) ⟨rfl, by decide +kernel⟩ 0 2 rfl rfl gW_o rfl (Nat.le_of_ble_eq_true rfl) (Nat.le_of_ble_eq_true rfl) ⟨Nat.le_of_ble_eq_true rfl, Nat.le_of_ble_eq_true rfl⟩ (Nat.le_of_ble_eq_true rfl) dX9_sends_22 (fun r_22 u H locs hp hI hz => ?_)
        have hI : wI E AR sR H locs (manW E q kd a ++ (gW E adg ivg grg pag mog sgg (some (adn 10)) ++ (tW E adn ivn hrn csn (sK K)))) := hI
        have hp : r_22 = b2i (decide (nd ((GL K n st).getD i 0) Y = 0)) := hp
        have hr_22 := hp
        rcases b2i_cases hr_22 with ⟨c_22, rfl⟩ | ⟨c_22, rfl⟩
        · skip
          have c_22 : nd ((GL K n st).getD i 0) Y = 0 := of_decide_eq_true c_22
          refine lv_if_ne (tgt := 31) hxR hbR dX9_sends_25 (by decide) (fun _ => ?_) (fun c => absurd c (by decide))
          refine lv_aload_n hxR hbR dX9_sends_31 rfl (lv_at hl 0 rfl) ?_
          refine lv_aload_n hxR hbR dX9_sends_32 rfl (lv_at hl 1 rfl) ?_
          refine lv_aload_n hxR hbR dX9_sends_33 rfl (lv_at hl 1 rfl) ?_
          refine r_get hxR hbR hts hown hK hI okX2 (ci := 2) rfl (1 + 0) (he_r (Nat.le_of_ble_eq_true rfl) (Nat.le_of_ble_eq_true rfl) (he_l gW_o)) 0 (by decide) q189 rfl (v := .ref (adg 0)) rfl dX9_sends_34 ?_
          refine lv_iload hxR hbR dX9_sends_37 (lv_at hl 6 rfl) ?_
          refine r_iald hxR hbR hK hI (1 + 1) (n := 35) (J := i) (f := grg) (v := nI ((GL K n st).getD i 0)) (he_r (Nat.le_of_ble_eq_true rfl) (Nat.le_of_ble_eq_true rfl) (he_l (gW_g0 rfl))) (by omega) (by decide) (hL.at (by omega)) dX9_sends_39 ?_
          refine kWorth (Z := (GL K n st).getD i 0) (f := fun w => w) (rest := []) hxR hbR hmlR hts hown hK hA hl.1 isCtx.id hkd hn hn7 hsg (by have := hL.lt (j := i) (by omega); omega) hI (Nat.le_of_ble_eq_true rfl) ⟨Nat.le_of_ble_eq_true rfl, Nat.le_of_ble_eq_true rfl⟩ (Nat.le_of_ble_eq_true rfl) dX9_sends_40 (fun H locs hI => ?_)
          refine lv_istore (lv' := [(7, .int (wV K csn n kd ((GL K n st).getD i 0))), (0, .ref q), (1, .ref (adg 8)), (2, .int (nI Y)), (3, .int (nI tc)), (4, .int (nI b)), (5, .int m9), (6, .int (nI i))]) hxR hbR dX9_sends_43 hl (by decide) rfl (fun ls hl => ?_)
          refine lv_iload hxR hbR dX9_sends_45 (lv_at hl 5 rfl) ?_
          refine lv_if_eq (tgt := 57) hxR hbR dX9_sends_47 (by decide) (fun c_47 => ?_) (fun c_47 => ?_)
          · skip
            have c_47 : b = 0 := (n_eq (a := b) (b := 0) (by omega) (by omega)).mp c_47
            refine lv_aload_n hxR hbR dX9_sends_57 rfl (lv_at hl 2 rfl) ?_
            refine r_get hxR hbR hts hown hK hI okX2 (ci := 2) rfl (1 + 0) (he_r (Nat.le_of_ble_eq_true rfl) (Nat.le_of_ble_eq_true rfl) (he_l gW_o)) 0 (by decide) q189 rfl (v := .ref (adg 0)) rfl dX9_sends_58 ?_
            refine lv_iload hxR hbR dX9_sends_61 (lv_at hl 7 rfl) ?_
            refine r_iald hxR hbR hK hI (1 + 1) (n := 35) (J := i) (f := grg) (v := nI ((GL K n st).getD i 0)) (he_r (Nat.le_of_ble_eq_true rfl) (Nat.le_of_ble_eq_true rfl) (he_l (gW_g0 rfl))) (by omega) (by decide) (hL.at (by omega)) dX9_sends_63 ?_
            refine lv_istore (lv' := [(4, .int (nI ((GL K n st).getD i 0))), (7, .int (wV K csn n kd ((GL K n st).getD i 0))), (0, .ref q), (1, .ref (adg 8)), (2, .int (nI Y)), (3, .int (nI tc)), (5, .int m9), (6, .int (nI i))]) hxR hbR dX9_sends_64 hl (by decide) rfl (fun ls hl => ?_)
            refine lv_iload hxR hbR dX9_sends_66 (lv_at hl 1 rfl) ?_
            refine lv_istore (lv' := [(5, .int (wV K csn n kd ((GL K n st).getD i 0))), (4, .int (nI ((GL K n st).getD i 0))), (7, .int (wV K csn n kd ((GL K n st).getD i 0))), (0, .ref q), (1, .ref (adg 8)), (2, .int (nI Y)), (3, .int (nI tc)), (6, .int (nI i))]) hxR hbR dX9_sends_68 hl (by decide) rfl (fun ls hl => ?_)
            refine lv_iinc (v := nI (i + 1)) (lv' := [(6, .int (nI (i + 1))), (5, .int (wV K csn n kd ((GL K n st).getD i 0))), (4, .int (nI ((GL K n st).getD i 0))), (7, .int (wV K csn n kd ((GL K n st).getD i 0))), (0, .ref q), (1, .ref (adg 8)), (2, .int (nI Y)), (3, .int (nI tc))]) hxR hbR dX9_sends_70 hl (k := 7) rfl (show nI i + 1 = nI (i + 1) from nI_add _ 1) (by decide) rfl (fun ls hl => ?_)
            refine lv_goto (tgt := 9) hxR hbR dX9_sends_73 (by decide) ?_
            exact ih_9 (i + 1) ((GL K n st).getD i 0) (wV K csn n kd ((GL K n st).getD i 0)) (by first | omega | with_reducible assumption) (by first | exact (chG_n (b := b) c_22) ▸ foldl_d c_15 hbb | exact (chG_0 c_22 c_47) ▸ foldl_d c_15 hbb | exact (ch_no (K := K) (cost := csn) (kd := kd) (Y := Y) (b := b) (g := (GL K n st).getD i 0) hn7 c_47 (by rw [← hm c_47]; exact c_54)) ▸ foldl_d c_15 hbb | exact (ch_yes (K := K) (cost := csn) (kd := kd) (Y := Y) (b := b) (g := (GL K n st).getD i 0) hn7 c_22 (by rw [← hm c_47]; exact c_54)) ▸ foldl_d c_15 hbb) (by first | exact hb8 | exact hL.lt (by omega)) (by first | exact hm | exact fun _ => rfl) (by omega) _ _ hI _ (lv_sub hl [4, 5, 6, 7, 2, 1, 0] rfl)
          · skip
            have c_47 : ¬ b = 0 := fun zz => c_47 ((n_eq (a := b) (b := 0) (by omega) (by omega)).mpr zz)
            refine lv_iload hxR hbR dX9_sends_50 (lv_at hl 0 rfl) ?_
            refine lv_iload hxR hbR dX9_sends_52 (lv_at hl 6 rfl) ?_
            refine lv_icmp_le (tgt := 70) hxR hbR dX9_sends_54 (by decide) (fun c_54 => ?_) (fun c_54 => ?_)
            · skip
              have i_54 : (wV K csn n kd ((GL K n st).getD i 0)).toInt ≤ m9.toInt := by have zz := i_le.mp c_54; exact zz
              refine lv_iinc (v := nI (i + 1)) (lv' := [(6, .int (nI (i + 1))), (7, .int (wV K csn n kd ((GL K n st).getD i 0))), (0, .ref q), (1, .ref (adg 8)), (2, .int (nI Y)), (3, .int (nI tc)), (4, .int (nI b)), (5, .int m9)]) hxR hbR dX9_sends_70 hl (k := 7) rfl (show nI i + 1 = nI (i + 1) from nI_add _ 1) (by decide) rfl (fun ls hl => ?_)
              refine lv_goto (tgt := 9) hxR hbR dX9_sends_73 (by decide) ?_
              exact ih_9 (i + 1) b m9 (by first | omega | with_reducible assumption) (by first | exact (chG_n (b := b) c_22) ▸ foldl_d c_15 hbb | exact (chG_0 c_22 c_47) ▸ foldl_d c_15 hbb | exact (ch_no (K := K) (cost := csn) (kd := kd) (Y := Y) (b := b) (g := (GL K n st).getD i 0) hn7 c_47 (by rw [← hm c_47]; exact c_54)) ▸ foldl_d c_15 hbb | exact (ch_yes (K := K) (cost := csn) (kd := kd) (Y := Y) (b := b) (g := (GL K n st).getD i 0) hn7 c_22 (by rw [← hm c_47]; exact c_54)) ▸ foldl_d c_15 hbb) (by first | exact hb8 | exact hL.lt (by omega)) (by first | exact hm | exact fun _ => rfl) (by omega) _ _ hI _ (lv_sub hl [2, 3, 4, 5, 6, 7, 0] rfl)
            · skip
              have i_54 : ¬ ((wV K csn n kd ((GL K n st).getD i 0)).toInt ≤ m9.toInt) := by have zz := mt i_le.mpr c_54; exact zz
              refine lv_aload_n hxR hbR dX9_sends_57 rfl (lv_at hl 2 rfl) ?_
              refine r_get hxR hbR hts hown hK hI okX2 (ci := 2) rfl (1 + 0) (he_r (Nat.le_of_ble_eq_true rfl) (Nat.le_of_ble_eq_true rfl) (he_l gW_o)) 0 (by decide) q189 rfl (v := .ref (adg 0)) rfl dX9_sends_58 ?_
              refine lv_iload hxR hbR dX9_sends_61 (lv_at hl 7 rfl) ?_
              refine r_iald hxR hbR hK hI (1 + 1) (n := 35) (J := i) (f := grg) (v := nI ((GL K n st).getD i 0)) (he_r (Nat.le_of_ble_eq_true rfl) (Nat.le_of_ble_eq_true rfl) (he_l (gW_g0 rfl))) (by omega) (by decide) (hL.at (by omega)) dX9_sends_63 ?_
              refine lv_istore (lv' := [(4, .int (nI ((GL K n st).getD i 0))), (7, .int (wV K csn n kd ((GL K n st).getD i 0))), (0, .ref q), (1, .ref (adg 8)), (2, .int (nI Y)), (3, .int (nI tc)), (5, .int m9), (6, .int (nI i))]) hxR hbR dX9_sends_64 hl (by decide) rfl (fun ls hl => ?_)
              refine lv_iload hxR hbR dX9_sends_66 (lv_at hl 1 rfl) ?_
              refine lv_istore (lv' := [(5, .int (wV K csn n kd ((GL K n st).getD i 0))), (4, .int (nI ((GL K n st).getD i 0))), (7, .int (wV K csn n kd ((GL K n st).getD i 0))), (0, .ref q), (1, .ref (adg 8)), (2, .int (nI Y)), (3, .int (nI tc)), (6, .int (nI i))]) hxR hbR dX9_sends_68 hl (by decide) rfl (fun ls hl => ?_)
              refine lv_iinc (v := nI (i + 1)) (lv' := [(6, .int (nI (i + 1))), (5, .int (wV K csn n kd ((GL K n st).getD i 0))), (4, .int (nI ((GL K n st).getD i 0))), (7, .int (wV K csn n kd ((GL K n st).getD i 0))), (0, .ref q), (1, .ref (adg 8)), (2, .int (nI Y)), (3, .int (nI tc))]) hxR hbR dX9_sends_70 hl (k := 7) rfl (show nI i + 1 = nI (i + 1) from nI_add _ 1) (by decide) rfl (fun ls hl => ?_)
              refine lv_goto (tgt := 9) hxR hbR dX9_sends_73 (by decide) ?_
              exact ih_9 (i + 1) ((GL K n st).getD i 0) (wV K csn n kd ((GL K n st).getD i 0)) (by first | omega | with_reducible assumption) (by first | exact (chG_n (b := b) c_22) ▸ foldl_d c_15 hbb | exact (chG_0 c_22 c_47) ▸ foldl_d c_15 hbb | exact (ch_no (K := K) (cost := csn) (kd := kd) (Y := Y) (b := b) (g := (GL K n st).getD i 0) hn7 c_47 (by rw [← hm c_47]; exact c_54)) ▸ foldl_d c_15 hbb | exact (ch_yes (K := K) (cost := csn) (kd := kd) (Y := Y) (b := b) (g := (GL K n st).getD i 0) hn7 c_22 (by rw [← hm c_47]; exact c_54)) ▸ foldl_d c_15 hbb) (by first | exact hb8 | exact hL.lt (by omega)) (by first | exact hm | exact fun _ => rfl) (by omega) _ _ hI _ (lv_sub hl [4, 5, 6, 7, 2, 1, 0] rfl)
        · skip
          have c_22 : ¬ nd ((GL K n st).getD i 0) Y = 0 := of_decide_eq_false c_22
          refine lv_if_ne (tgt := 31) hxR hbR dX9_sends_25 (by decide) (fun c => absurd c (by decide)) (fun _ => ?_)
          refine lv_goto (tgt := 70) hxR hbR dX9_sends_28 (by decide) ?_
          refine lv_iinc (v := nI (i + 1)) (lv' := [(6, .int (nI (i + 1))), (0, .ref q), (1, .ref (adg 8)), (2, .int (nI Y)), (3, .int (nI tc)), (4, .int (nI b)), (5, .int m9)]) hxR hbR dX9_sends_70 hl (k := 6) rfl (show nI i + 1 = nI (i + 1) from nI_add _ 1) (by decide) rfl (fun ls hl => ?_)
          refine lv_goto (tgt := 9) hxR hbR dX9_sends_73 (by decide) ?_
          exact ih_9 (i + 1) b m9 (by first | omega | with_reducible assumption) (by first | exact (chG_n (b := b) c_22) ▸ foldl_d c_15 hbb | exact (chG_0 c_22 c_47) ▸ foldl_d c_15 hbb | exact (ch_no (K := K) (cost := csn) (kd := kd) (Y := Y) (b := b) (g := (GL K n st).getD i 0) hn7 c_47 (by rw [← hm c_47]; exact c_54)) ▸ foldl_d c_15 hbb | exact (ch_yes (K := K) (cost := csn) (kd := kd) (Y := Y) (b := b) (g := (GL K n st).getD i 0) hn7 c_22 (by rw [← hm c_47]; exact c_54)) ▸ foldl_d c_15 hbb) (by first | exact hb8 | exact hL.lt (by omega)) (by first | exact hm | exact fun _ => rfl) (by omega) _ _ hI _ (lv_sub hl [1, 2, 3, 4, 5, 6, 0] rfl)
  exact lp_9 _ 0 0 0 (by first | omega | with_reducible assumption) rfl (by first | omega | with_reducible assumption) (fun h => absurd rfl h) (Nat.lt_succ_self _) _ _ hI _ (lv_sub hl [3, 4, 5, 6, 2, 1, 0] rfl)

theorem c10_sends (l : Launch) (E : En) (q : Nat) (a : Int32) (adg : Nat → Nat) (ivg : Nat → Int32) (grg : Nat → Int32) (pag : Nat → Int32) (mog : Nat → Int32) (sgg : Nat → Int32) (adn : Nat → Nat) (ivn : Nat → Int32) (hrn : Nat → Int32) (csn : Nat → Int32) (K : Nat → Nat → Int32) (n st Y tc k9 : Nat) (hn : ivn 3 = nI n) (hc : ivg 5 = nI (GL K n st).length) (hn7 : n ≤ 7) (hL : gL grg (GL K n st)) (hM : (∀ Z, Z < 2 ^ n → mog Z = nI (mostV (GL K n st) Z))) (hsg : (∀ p, p < n → sgg p = nI (strS K p n))) (hY : Y < 2 ^ n) (htc : tc < 100) (h9 : k9 < 100) (ha : a = nI k9) : CtI l E yX10_sends cX10_sends 4 .int 3 0 0 [.ref q, .ref (adg 8), .int (nI Y), .int (nI tc)] (manW E q 3 a ++ (gW E adg ivg grg pag mog sgg (some (adn 10)) ++ (tW E adn ivn hrn csn (sK K)))) (fun (r : Int32) (u : Unit) => r = nI (sentV K csn n st 3 k9 Y tc)) (fun (u : Unit) => manW E q 3 a ++ (gW E adg ivg grg pag mog sgg (some (adn 10)) ++ (tW E adn ivn hrn csn (sK K)))) := by
  have h27 : 2 ^ n ≤ 2 ^ 7 := Nat.pow_le_pow_right (by decide) hn7
  have hl35 := hL.2.1
  refine CtI.of (by decide +kernel) (Nat.le_of_ble_eq_true rfl) ?_
  intro pR eR sR mR aR bR tR cR AR ls QR hxR hbR hmlR hts hown hlk hnm hA hK hI hl hret
  have hl : lv_has ls 4 [(0, .ref q), (1, .ref (adg 8)), (2, .int (nI Y)), (3, .int (nI tc))] := hl
  refine lv_iload_n hxR hbR dX10_sends_0 rfl (lv_at hl 3 rfl) ?_
  refine lv_if_eq (tgt := 15) hxR hbR dX10_sends_1 (by decide) (fun c_1 => ?_) (fun c_1 => ?_)
  · skip
    have c_1 : tc = 0 := (n_eq (a := tc) (b := 0) (by omega) (by omega)).mp c_1
    refine lv_aload_n hxR hbR dX10_sends_15 rfl (lv_at hl 0 rfl) ?_
    refine lv_aload_n hxR hbR dX10_sends_16 rfl (lv_at hl 1 rfl) ?_
    refine lv_iload_n hxR hbR dX10_sends_17 rfl (lv_at hl 2 rfl) ?_
    refine lv_iload_n hxR hbR dX10_sends_18 rfl (lv_at hl 3 rfl) ?_
    refine kSuI (n := 3) (As := [.ref (adg 8), .int (nI Y), .int (nI tc)]) (rest := []) (fun w => w) hxR hbR hmlR hts hown hK hA hl.1 isCtx.id hI (c8_sends l E q 3 a adg ivg grg pag mog sgg adn ivn hrn csn K n st Y tc k9 hn hc hn7 hL hM hsg hY htc h9 ha) (lw_SU q738 q2058 q587 q721 q99 q723) ⟨by decide, by decide +kernel⟩ 0 9 rfl (he_l manW_o) rfl (Nat.le_of_ble_eq_true rfl) (Nat.le_of_ble_eq_true rfl) ⟨Nat.le_of_ble_eq_true rfl, Nat.le_of_ble_eq_true rfl⟩ (Nat.le_of_ble_eq_true rfl) dX10_sends_19 (fun r_19 u H locs hp hI hz => ?_)
    have hp : r_19 = nI (firstL Y (GL K n st)) := hp
    subst hp
    refine lv_goto (tgt := 26) hxR hbR dX10_sends_22 (by decide) ?_
    exact hret () (nI (firstL Y (GL K n st))) _ _ _ _ _ _ dX10_sends_26 hI (by show (nI (firstL Y (GL K n st))) = nI (sentV K csn n st 3 k9 Y tc); first | rw [sentV, if_pos ⟨rfl, by omega, by omega⟩]; rfl | rw [sentV, if_neg (by omega), if_pos (Or.inr rfl)]) (Nat.le_of_ble_eq_true rfl) (Nat.le_of_ble_eq_true rfl) rfl
  · skip
    have c_1 : ¬ tc = 0 := fun zz => c_1 ((n_eq (a := tc) (b := 0) (by omega) (by omega)).mpr zz)
    refine lv_iload_n hxR hbR dX10_sends_4 rfl (lv_at hl 2 rfl) ?_
    refine kSI (n := 1) (As := [.int (nI Y)]) (rest := []) (fun w => w ++ (manW E q 3 a ++ (gW E adg ivg grg pag mog sgg (some (adn 10)) ++ (tW E adn ivn hrn csn (sK K))))) hxR hbR hmlR hts hown hK hA hl.1 (isCtx.suf _) hI (c10_bitCount l E  Y (by omega)) (lw_S q737 q651 q105 q652) (by decide +kernel) rfl (Nat.le_of_ble_eq_true rfl) (Nat.le_of_ble_eq_true rfl) ⟨Nat.le_of_ble_eq_true rfl, Nat.le_of_ble_eq_true rfl⟩ (Nat.le_of_ble_eq_true rfl) dX10_sends_5 (fun r_5 u H locs hp hI hz => ?_)
    have hI : wI E AR sR H locs (manW E q 3 a ++ (gW E adg ivg grg pag mog sgg (some (adn 10)) ++ (tW E adn ivn hrn csn (sK K)))) := hI
    have hp : r_5 = nI (bitsN Y 8) := hp
    have hr_5 := hp
    subst hr_5
    have hbl := bitsN_le Y 8
    refine lv_aload_n hxR hbR dX10_sends_8 rfl (lv_at hl 0 rfl) ?_
    refine r_getS hxR hbR hts hown hK hI okX10 (ci := 9) rfl 0 (he_l manW_o) 0 (by decide) q566 q567 (v := .int a) rfl dX10_sends_9 ?_
    refine lv_as (y := nI k9) ha ?_
    refine lv_icmp_lt (tgt := 25) hxR hbR dX10_sends_12 (by decide) (fun c_12 => ?_) (fun c_12 => ?_)
    · skip
      have c_12 : (bitsN Y 8) < k9 := (n_lt (a := (bitsN Y 8)) (b := k9) (by omega) (by omega)).mp c_12
      refine lv_iconst (v := 0) hxR hbR dX10_sends_25 (by decide) ?_
      exact hret () 0 _ _ _ _ _ _ dX10_sends_26 hI (by show 0 = nI (sentV K csn n st 3 k9 Y tc); first | rw [sentV, if_pos ⟨rfl, by omega, by omega⟩]; rfl | rw [sentV, if_neg (by omega), if_pos (Or.inr rfl)]) (Nat.le_of_ble_eq_true rfl) (Nat.le_of_ble_eq_true rfl) rfl
    · skip
      have c_12 : k9 ≤ (bitsN Y 8) := Nat.le_of_not_lt (fun zz => c_12 ((n_lt (a := (bitsN Y 8)) (b := k9) (by omega) (by omega)).mpr zz))
      refine lv_aload_n hxR hbR dX10_sends_15 rfl (lv_at hl 0 rfl) ?_
      refine lv_aload_n hxR hbR dX10_sends_16 rfl (lv_at hl 1 rfl) ?_
      refine lv_iload_n hxR hbR dX10_sends_17 rfl (lv_at hl 2 rfl) ?_
      refine lv_iload_n hxR hbR dX10_sends_18 rfl (lv_at hl 3 rfl) ?_
      refine kSuI (n := 3) (As := [.ref (adg 8), .int (nI Y), .int (nI tc)]) (rest := []) (fun w => w) hxR hbR hmlR hts hown hK hA hl.1 isCtx.id hI (c8_sends l E q 3 a adg ivg grg pag mog sgg adn ivn hrn csn K n st Y tc k9 hn hc hn7 hL hM hsg hY htc h9 ha) (lw_SU q738 q2058 q587 q721 q99 q723) ⟨by decide, by decide +kernel⟩ 0 9 rfl (he_l manW_o) rfl (Nat.le_of_ble_eq_true rfl) (Nat.le_of_ble_eq_true rfl) ⟨Nat.le_of_ble_eq_true rfl, Nat.le_of_ble_eq_true rfl⟩ (Nat.le_of_ble_eq_true rfl) dX10_sends_19 (fun r_19 u H locs hp hI hz => ?_)
      have hp : r_19 = nI (firstL Y (GL K n st)) := hp
      subst hp
      refine lv_goto (tgt := 26) hxR hbR dX10_sends_22 (by decide) ?_
      exact hret () (nI (firstL Y (GL K n st))) _ _ _ _ _ _ dX10_sends_26 hI (by show (nI (firstL Y (GL K n st))) = nI (sentV K csn n st 3 k9 Y tc); first | rw [sentV, if_pos ⟨rfl, by omega, by omega⟩]; rfl | rw [sentV, if_neg (by omega), if_pos (Or.inr rfl)]) (Nat.le_of_ble_eq_true rfl) (Nat.le_of_ble_eq_true rfl) rfl

theorem c12_sends (l : Launch) (E : En) (q : Nat) (a : Int32) (adg : Nat → Nat) (ivg : Nat → Int32) (grg : Nat → Int32) (pag : Nat → Int32) (mog : Nat → Int32) (sgg : Nat → Int32) (adn : Nat → Nat) (ivn : Nat → Int32) (hrn : Nat → Int32) (csn : Nat → Int32) (K : Nat → Nat → Int32) (n st Y tc k9 : Nat) (hn : ivn 3 = nI n) (hc : ivg 5 = nI (GL K n st).length) (hn7 : n ≤ 7) (hL : gL grg (GL K n st)) (hM : (∀ Z, Z < 2 ^ n → mog Z = nI (mostV (GL K n st) Z))) (hsg : (∀ p, p < n → sgg p = nI (strS K p n))) (hY : Y < 2 ^ n) (htc : tc < 100) (h9 : k9 < 100) (ha : a = nI k9) : CtI l E yX12_sends cX12_sends 4 .int 3 0 0 [.ref q, .ref (adg 8), .int (nI Y), .int (nI tc)] (manW E q 5 a ++ (gW E adg ivg grg pag mog sgg (some (adn 10)) ++ (tW E adn ivn hrn csn (sK K)))) (fun (r : Int32) (u : Unit) => r = nI (sentV K csn n st 5 k9 Y tc)) (fun (u : Unit) => manW E q 5 a ++ (gW E adg ivg grg pag mog sgg (some (adn 10)) ++ (tW E adn ivn hrn csn (sK K)))) := by
  have h27 : 2 ^ n ≤ 2 ^ 7 := Nat.pow_le_pow_right (by decide) hn7
  have hl35 := hL.2.1
  refine CtI.of (by decide +kernel) (Nat.le_of_ble_eq_true rfl) ?_
  intro pR eR sR mR aR bR tR cR AR ls QR hxR hbR hmlR hts hown hlk hnm hA hK hI hl hret
  have hl : lv_has ls 4 [(0, .ref q), (1, .ref (adg 8)), (2, .int (nI Y)), (3, .int (nI tc))] := hl
  refine lv_aload_n hxR hbR dX12_sends_0 rfl (lv_at hl 1 rfl) ?_
  refine lv_iload_n hxR hbR dX12_sends_1 rfl (lv_at hl 2 rfl) ?_
  refine kVI (n := 1) (As := [.int (nI Y)]) (rest := []) (fun w => (manW E q 5 a) ++ (w ++ (tW E adn ivn hrn csn (sK K)))) hxR hbR hmlR hts hown hK hA hl.1 (isCtx.mk _ _) hI (c2_best l E adg ivg grg pag mog sgg (some (adn 10)) (GL K n st) n Y hc (by first | omega | with_reducible assumption) (by first | omega | with_reducible assumption) (by first | omega | with_reducible assumption) (by first | omega | with_reducible assumption)) (lw_V q690 q691 q692 q83 q693) ⟨rfl, by decide +kernel⟩ 0 2 rfl rfl gW_o rfl (Nat.le_of_ble_eq_true rfl) (Nat.le_of_ble_eq_true rfl) ⟨Nat.le_of_ble_eq_true rfl, Nat.le_of_ble_eq_true rfl⟩ (Nat.le_of_ble_eq_true rfl) dX12_sends_2 (fun r_2 u H locs hp hI hz => ?_)
  have hI : wI E AR sR H locs (manW E q 5 a ++ (gW E adg ivg grg pag mog sgg (some (adn 10)) ++ (tW E adn ivn hrn csn (sK K)))) := hI
  have hp : r_2 = nI (bestL (GL K n st) Y (GL K n st)) := hp
  have hr_2 := hp
  subst hr_2
  exact hret () (nI (bestL (GL K n st) Y (GL K n st))) _ _ _ _ _ _ dX12_sends_5 hI (by show (nI (bestL (GL K n st) Y (GL K n st))) = nI (sentV K csn n st 5 k9 Y tc); rfl) (Nat.le_of_ble_eq_true rfl) (Nat.le_of_ble_eq_true rfl) rfl

def SndOK (l : Launch) (E : En) (kd : Nat) (av : List Value) (wc : va_W) {S : Type} (post : Int32 → S → Prop) (ws1 : S → va_W) : Prop :=
  (kd = 1 → CtI l E yX8_sends cX8_sends 4 .int 2 0 0 av wc post ws1) ∧ (kd = 2 ∨ kd = 4 → CtI l E yX9_sends cX9_sends 8 .int 3 0 0 av wc post ws1) ∧ (kd = 3 → CtI l E yX10_sends cX10_sends 4 .int 3 0 0 av wc post ws1) ∧ (kd = 5 → CtI l E yX12_sends cX12_sends 4 .int 3 0 0 av wc post ws1)
theorem sends_ok (l : Launch) (E : En) (q kd : Nat) (a : Int32) (adg : Nat → Nat) (ivg grg pag mog sgg : Nat → Int32) (adn : Nat → Nat) (ivn hrn csn : Nat → Int32) (K : Nat → Nat → Int32) (n st Y tc k9 : Nat) (h1 : 1 ≤ kd) (h5 : kd ≤ 5) (hn : ivn 3 = nI n) (hc : ivg 5 = nI (GL K n st).length) (hn7 : n ≤ 7) (hL : gL grg (GL K n st)) (hM : (∀ Z, Z < 2 ^ n → mog Z = nI (mostV (GL K n st) Z))) (hsg : (∀ p, p < n → sgg p = nI (strS K p n))) (hY : Y < 2 ^ n) (htc : tc < 100) (h9 : k9 < 100) (ha : a = nI k9) : SndOK l E kd [.ref q, .ref (adg 8), .int (nI Y), .int (nI tc)] (manW E q kd a ++ (gW E adg ivg grg pag mog sgg (some (adn 10)) ++ (tW E adn ivn hrn csn (sK K)))) (fun (r : Int32) (u : Unit) => r = nI (sentV K csn n st kd k9 Y tc)) (fun (u : Unit) => manW E q kd a ++ (gW E adg ivg grg pag mog sgg (some (adn 10)) ++ (tW E adn ivn hrn csn (sK K)))) := by
  refine ⟨fun e => ?_, fun e => c9_sends l E q kd a adg ivg grg pag mog sgg adn ivn hrn csn K n st Y tc k9 e hn hc hn7 hL hM hsg hY htc h9 ha, fun e => ?_, fun e => ?_⟩
  · subst e; exact c8_sends l E q 1 a adg ivg grg pag mog sgg adn ivn hrn csn K n st Y tc k9 hn hc hn7 hL hM hsg hY htc h9 ha
  · subst e; exact c10_sends l E q a adg ivg grg pag mog sgg adn ivn hrn csn K n st Y tc k9 hn hc hn7 hL hM hsg hY htc h9 ha
  · subst e; exact c12_sends l E q a adg ivg grg pag mog sgg adn ivn hrn csn K n st Y tc k9 hn hc hn7 hL hM hsg hY htc h9 ha
section KSE
variable {p : Program} {l : Launch} {e : Env} {F1 mc1 ms1 : Nat} {s : State} {m : MethodId} {args : Array Value} {below : List Frame} {meth : Method} {c : Code} {H : Heap} {locs : List Loc} {cells slots : Nat} {Q : State → Prop} {cc : ByteArray} {pc nL1 index n : Nat} {ls : Array Slot} {rest : List Value} {E : En} {A : Nat → Prop} {wc : va_W} {own : String} {As : List Value} {b q kd : Nat} {a : Int32}
variable {mc ms : Nat} {S : Type}
/-- a coachman sends: a call by the name of class Coachman -/
theorem kSends {post : Int32 → S → Prop} {ws1 : S → va_W} {wr : va_W} (f : va_W → va_W) (hexec : p.tables.exec = Jvm.exec) (hb : c.code = cc) (hml : c.maxLocals = nL1) (hts : ∀ w ∈ lw_all, w.before args s = true) (hown : s.vm.findClass own = some m.cls) (hK : KX E A s) (hA : ∀ q, s.heap.size ≤ q → A q) (hl : ls.size = nL1) (hf : isCtx f) (hI : wI E A s H locs (f (manW E q kd a ++ wr)))
    (hM : SndOK l E kd (.ref q :: As) (manW E q kd a ++ wr) post ws1) (h1 : 1 ≤ kd) (h5 : kd ≤ 5) (hlink : Cond.methodLink own index yX7_sends ∈ lw_all) (hn3 : n = 3) (hn : As.length = n) (hF : 4 ≤ F1) (hL : 4 ≤ 81) (hcs : cells + 0 ≤ mc1 ∧ slots + 0 ≤ ms1) (hroom : (rest.map fun v => v.category).sum ≤ 8) (hdg : decode cc pc = .ok (.invokevirtual index, 3))
    (kk : ∀ (r : Int32) (u : S) (H1 : Heap) (locs1 : List Loc), post r u → wI E A s H1 locs1 (f (ws1 u)) → H.size ≤ H1.size → W p l e (rmF F1 mc1 ms1) s m args below meth c H1 locs1 (cells + 0) (slots + 0) Q (F0 m (pc + 3) ls (.int r :: rest))) : W p l e (rmF F1 mc1 ms1) s m args below meth c H locs cells slots Q (F0 m pc ls (As.reverse ++ .ref q :: rest)) := by
  subst hn3
  have hk : kd = 1 ∨ kd = 2 ∨ kd = 3 ∨ kd = 4 ∨ kd = 5 := by omega
  rcases hk with e | e | e | e | e
  · subst e
    exact kUI (x := yX7_sends) (C := RX8) (rest := rest) f hexec hb hml hts hown hK hA hl hf hI (hM.1 rfl) (lw_U hlink q1213 q1212 q1216 q721 q99 q723) q1219 ⟨by decide +kernel, by decide +kernel, by decide +kernel⟩ 0 7 rfl rfl (he_l manW_o) hn (by omega) (Nat.le_of_ble_eq_true rfl) hcs hroom hdg kk
  · subst e
    exact kUI (x := yX7_sends) (C := RX9) (rest := rest) f hexec hb hml hts hown hK hA hl hf hI (hM.2.1 (Or.inl rfl)) (lw_U hlink q1213 q1212 q1215 q697 q100 q699) q1219 ⟨by decide +kernel, by decide +kernel, by decide +kernel⟩ 0 8 rfl rfl (he_l manW_o) hn (by omega) (Nat.le_of_ble_eq_true rfl) hcs hroom hdg kk
  · subst e
    exact kUI (x := yX7_sends) (C := RX10) (rest := rest) f hexec hb hml hts hown hK hA hl hf hI (hM.2.2.1 rfl) (lw_U hlink q1213 q1212 q1218 q734 q101 q736) q1219 ⟨by decide +kernel, by decide +kernel, by decide +kernel⟩ 0 9 rfl rfl (he_l manW_o) hn (by omega) (Nat.le_of_ble_eq_true rfl) hcs hroom hdg kk
  · subst e
    exact kUI (x := yX7_sends) (C := RX11) (rest := rest) f hexec hb hml hts hown hK hA hl hf hI (hM.2.1 (Or.inr rfl)) (lw_U hlink q1213 q1212 q1217 q697 q100 q699) q1219 ⟨by decide +kernel, by decide +kernel, by decide +kernel⟩ 0 10 rfl rfl (he_l manW_o) hn (by omega) (Nat.le_of_ble_eq_true rfl) hcs hroom hdg kk
  · subst e
    exact kUI (x := yX7_sends) (C := RX12) (rest := rest) f hexec hb hml hts hown hK hA hl hf hI (hM.2.2.2 rfl) (lw_U hlink q1213 q1212 q1214 q687 q103 q689) q1219 ⟨by decide +kernel, by decide +kernel, by decide +kernel⟩ 0 11 rfl rfl (he_l manW_o) hn (by omega) (Nat.le_of_ble_eq_true rfl) hcs hroom hdg kk
def KdOK (l : Launch) (E : En) (kd : Nat) (av : List Value) (wc : va_W) {S : Type} (post : Int32 → S → Prop) (ws1 : S → va_W) : Prop :=
  (kd = 1 → CtI l E yX8_kind cX8_kind 1 .int 0 0 0 av wc post ws1) ∧ (kd = 2 → CtI l E yX9_kind cX9_kind 1 .int 0 0 0 av wc post ws1) ∧ (kd = 3 → CtI l E yX10_kind cX10_kind 1 .int 0 0 0 av wc post ws1) ∧ (kd = 4 → CtI l E yX11_kind cX11_kind 1 .int 0 0 0 av wc post ws1) ∧ (kd = 5 → CtI l E yX12_kind cX12_kind 1 .int 0 0 0 av wc post ws1)
theorem kind_ok (l : Launch) (E : En) (q kd : Nat) (a : Int32) (h1 : 1 ≤ kd) (h5 : kd ≤ 5) : KdOK l E kd [.ref q] (manW E q kd a) (fun (r : Int32) (u : Unit) => r = nI kd) (fun (u : Unit) => manW E q kd a) := by
  refine ⟨fun e => ?_, fun e => ?_, fun e => ?_, fun e => ?_, fun e => ?_⟩
  · subst e; exact c8_kind l E q a
  · subst e; exact c9_kind l E q a
  · subst e; exact c10_kind l E q a
  · subst e; exact c11_kind l E q a
  · subst e; exact c12_kind l E q a
/-- which kind he is: a call by the name of class Coachman -/
theorem kKind {post : Int32 → S → Prop} {ws1 : S → va_W} (f : va_W → va_W) (hexec : p.tables.exec = Jvm.exec) (hb : c.code = cc) (hml : c.maxLocals = nL1) (hts : ∀ w ∈ lw_all, w.before args s = true) (hown : s.vm.findClass own = some m.cls) (hK : KX E A s) (hA : ∀ q, s.heap.size ≤ q → A q) (hl : ls.size = nL1) (hf : isCtx f) (hI : wI E A s H locs (f (manW E q kd a)))
    (hM : KdOK l E kd (.ref q :: As) (manW E q kd a) post ws1) (h1 : 1 ≤ kd) (h5 : kd ≤ 5) (hlink : Cond.methodLink own index yX7_kind ∈ lw_all) (hn3 : n = 0) (hn : As.length = n) (hF : 1 ≤ F1) (hL : 4 ≤ 81) (hcs : cells + 0 ≤ mc1 ∧ slots + 0 ≤ ms1) (hroom : (rest.map fun v => v.category).sum ≤ 8) (hdg : decode cc pc = .ok (.invokevirtual index, 3))
    (kk : ∀ (r : Int32) (u : S) (H1 : Heap) (locs1 : List Loc), post r u → wI E A s H1 locs1 (f (ws1 u)) → H.size ≤ H1.size → W p l e (rmF F1 mc1 ms1) s m args below meth c H1 locs1 (cells + 0) (slots + 0) Q (F0 m (pc + 3) ls (.int r :: rest))) : W p l e (rmF F1 mc1 ms1) s m args below meth c H locs cells slots Q (F0 m pc ls (As.reverse ++ .ref q :: rest)) := by
  subst hn3
  have hk : kd = 1 ∨ kd = 2 ∨ kd = 3 ∨ kd = 4 ∨ kd = 5 := by omega
  rcases hk with e | e | e | e | e
  · subst e
    exact kUI (x := yX7_kind) (C := RX8) (rest := rest) f hexec hb hml hts hown hK hA hl hf hI (hM.1 rfl) (lw_U hlink q532 q531 q539 q540 q99 q541) q548 ⟨by decide +kernel, by decide +kernel, by decide +kernel⟩ 0 7 rfl rfl manW_o hn (by omega) (Nat.le_of_ble_eq_true rfl) hcs hroom hdg kk
  · subst e
    exact kUI (x := yX7_kind) (C := RX9) (rest := rest) f hexec hb hml hts hown hK hA hl hf hI (hM.2.1 rfl) (lw_U hlink q532 q531 q536 q537 q100 q538) q548 ⟨by decide +kernel, by decide +kernel, by decide +kernel⟩ 0 8 rfl rfl manW_o hn (by omega) (Nat.le_of_ble_eq_true rfl) hcs hroom hdg kk
  · subst e
    exact kUI (x := yX7_kind) (C := RX10) (rest := rest) f hexec hb hml hts hown hK hA hl hf hI (hM.2.2.1 rfl) (lw_U hlink q532 q531 q545 q546 q101 q547) q548 ⟨by decide +kernel, by decide +kernel, by decide +kernel⟩ 0 9 rfl rfl manW_o hn (by omega) (Nat.le_of_ble_eq_true rfl) hcs hroom hdg kk
  · subst e
    exact kUI (x := yX7_kind) (C := RX11) (rest := rest) f hexec hb hml hts hown hK hA hl hf hI (hM.2.2.2.1 rfl) (lw_U hlink q532 q531 q542 q543 q102 q544) q548 ⟨by decide +kernel, by decide +kernel, by decide +kernel⟩ 0 10 rfl rfl manW_o hn (by omega) (Nat.le_of_ble_eq_true rfl) hcs hroom hdg kk
  · subst e
    exact kUI (x := yX7_kind) (C := RX12) (rest := rest) f hexec hb hml hts hown hK hA hl hf hI (hM.2.2.2.2 rfl) (lw_U hlink q532 q531 q533 q534 q103 q535) q548 ⟨by decide +kernel, by decide +kernel, by decide +kernel⟩ 0 11 rfl rfl manW_o hn (by omega) (Nat.le_of_ble_eq_true rfl) hcs hroom hdg kk
end KSE