theorem c3_sends (l : Launch) (E : En) (ad : Nat → Nat) (iv : Nat → Int32) (od : Nat → Int32) (co : Nat → Int32) (wt : Nat → Int32) (qm : Nat) (kdm : Nat) (am : Int32) (adg : Nat → Nat) (ivg : Nat → Int32) (grg : Nat → Int32) (pag : Nat → Int32) (mog : Nat → Int32) (sgg : Nat → Int32) (adn : Nat → Nat) (ivn : Nat → Int32) (hrn : Nat → Int32) (csn : Nat → Int32) (K : Nat → Nat → Int32) (n st Y tc k9 : Nat) (now : Int32) (cs : List Nat) (co0 : Nat → Int32) (hn : ivn 3 = nI n) (hc : ivg 5 = nI (GL K n st).length) (hn7 : n ≤ 7) (hL : gL grg (GL K n st)) (hM : (∀ Z, Z < 2 ^ n → mog Z = nI (mostV (GL K n st) Z))) (hsg : (∀ p, p < n → sgg p = nI (strS K p n))) (h9 : k9 < 100) (ha : am = nI k9) (h1 : 1 ≤ kdm) (h5 : kdm ≤ 5) (hw5 : iv 5 = nI cs.length) (hco : co = wrL co0 0 cs) (hY : Y < 2 ^ n) (htc : tc < 100) (hbs : cs.length + bitsN Y 8 ≤ 7) : CtI l E yX3_sends cX3_sends 7 .int 4 0 0 [.ref (ad 7), .ref qm, .int (nI Y), .int now, .int (nI tc)] (dW E ad iv od co wt (some (adn 10)) (some (adg 8)) ++ (manW E qm kdm am ++ (gW E adg ivg grg pag mog sgg (some (adn 10)) ++ (tW E adn ivn hrn csn (sK K))))) (fun (r : Int32) (u : Unit) => r = nI (sndF (fun y => sentV K csn n st kdm k9 y tc) csn hrn now n 512 cs Y wt).2.1) (fun (u : Unit) => dW E ad (va_up iv 5 (nI ((sndF (fun y => sentV K csn n st kdm k9 y tc) csn hrn now n 512 cs Y wt).1.length))) od (wrL co0 0 (sndF (fun y => sentV K csn n st kdm k9 y tc) csn hrn now n 512 cs Y wt).1) ((sndF (fun y => sentV K csn n st kdm k9 y tc) csn hrn now n 512 cs Y wt).2.2) (some (adn 10)) (some (adg 8)) ++ (manW E qm kdm am ++ (gW E adg ivg grg pag mog sgg (some (adn 10)) ++ (tW E adn ivn hrn csn (sK K))))) := by
  have h27 : 2 ^ n ≤ 2 ^ 7 := Nat.pow_le_pow_right (by decide) hn7
  refine CtI.of (by decide +kernel) (Nat.le_of_ble_eq_true rfl) ?_
  intro pR eR sR mR aR bR tR cR AR ls QR hxR hbR hmlR hts hown hlk hnm hA hK hI hl hret
  have hl : lv_has ls 7 [(0, .ref (ad 7)), (1, .ref qm), (2, .int (nI Y)), (3, .int now), (4, .int (nI tc))] := hl
  refine lv_iload_n hxR hbR dX3_sends_0 rfl (lv_at hl 2 rfl) ?_
  refine lv_istore (lv' := [(5, .int (nI Y)), (0, .ref (ad 7)), (1, .ref qm), (2, .int (nI Y)), (3, .int now), (4, .int (nI tc))]) hxR hbR dX3_sends_1 hl (by decide) rfl (fun ls hl => ?_)
  refine lv_aload_n hxR hbR dX3_sends_3 rfl (lv_at hl 2 rfl) ?_
  refine lv_aload_n hxR hbR dX3_sends_4 rfl (lv_at hl 1 rfl) ?_
  refine r_get hxR hbR hts hown hK hI okX3 (ci := 3) rfl 0 (he_l dW_o) 4 (by decide) q231 rfl (v := .ref (adg 8)) rfl dX3_sends_5 ?_
  refine lv_iload hxR hbR dX3_sends_8 (lv_at hl 0 rfl) ?_
  refine lv_iload hxR hbR dX3_sends_10 (lv_at hl 5 rfl) ?_
  refine kSends (n := 3) (As := [.ref (adg 8), .int (nI Y), .int (nI tc)]) (rest := []) (fun w => (dW E ad iv od co wt (some (adn 10)) (some (adg 8))) ++ w) hxR hbR hmlR hts hown hK hA hl.1 (isCtx.pre _) hI (sends_ok l E qm kdm am adg ivg grg pag mog sgg adn ivn hrn csn K n st Y tc k9 (by first | omega | with_reducible assumption) (by first | omega | with_reducible assumption) hn hc (by first | omega | with_reducible assumption) (by first | omega | with_reducible assumption) (by first | omega | with_reducible assumption) (by first | omega | with_reducible assumption) (by first | omega | with_reducible assumption) (by first | omega | with_reducible assumption) (by first | omega | with_reducible assumption) (by first | omega | with_reducible assumption)) (by first | assumption | omega) (by first | assumption | omega) q1240 rfl rfl (Nat.le_of_ble_eq_true rfl) (Nat.le_of_ble_eq_true rfl) ⟨Nat.le_of_ble_eq_true rfl, Nat.le_of_ble_eq_true rfl⟩ (Nat.le_of_ble_eq_true rfl) dX3_sends_12 (fun r_12 u H locs hp hI hz => ?_)
  have hI : wI E AR sR H locs (dW E ad iv od co wt (some (adn 10)) (some (adg 8)) ++ (manW E qm kdm am ++ (gW E adg ivg grg pag mog sgg (some (adn 10)) ++ (tW E adn ivn hrn csn (sK K))))) := hI
  have hp : r_12 = nI (sentV K csn n st kdm k9 Y tc) := hp
  have hr_12 := hp
  subst hr_12
  refine lv_istore (lv' := [(6, .int (nI (sentV K csn n st kdm k9 Y tc))), (5, .int (nI Y)), (0, .ref (ad 7)), (1, .ref qm), (2, .int (nI Y)), (3, .int now), (4, .int (nI tc))]) hxR hbR dX3_sends_15 hl (by decide) rfl (fun ls hl => ?_)
  have hI := wI_w (ws' := dW E ad (va_up iv 5 (nI cs.length)) od co wt (some (adn 10)) (some (adg 8)) ++ (manW E qm kdm am ++ (gW E adg ivg grg pag mog sgg (some (adn 10)) ++ (tW E adn ivn hrn csn (sK K))))) (by rw [va_up_id (f := iv) (k := 5) (v := nI cs.length) hw5]) hI
  have lp_17 : ∀ (fu : Nat) (s : Nat) (y2 : Nat) (cs2 : List Nat) (f : Nat) (w2 : Nat → Int32) (wn2 : Nat) (gg : Nat → Int32), (s = sentV K csn n st kdm k9 y2 tc) → (y2 < 2 ^ n) → (y2 < f) → (sndF (fun y => sentV K csn n st kdm k9 y tc) csn hrn now n f cs2 y2 w2 = sndF (fun y => sentV K csn n st kdm k9 y tc) csn hrn now n 512 cs Y wt) → (wn2 = cs2.length) → (gg = wrL co0 0 cs2) → (cs2.length + bitsN y2 8 ≤ 7) → y2 < fu → ∀ (H : Heap) (locs : List Loc), wI E AR sR H locs (dW E ad (va_up iv 5 (nI wn2)) od gg w2 (some (adn 10)) (some (adg 8)) ++ (manW E qm kdm am ++ (gW E adg ivg grg pag mog sgg (some (adn 10)) ++ (tW E adn ivn hrn csn (sK K))))) → ∀ ls : Array Slot, lv_has ls 7 [(0, .ref (ad 7)), (1, .ref qm), (2, .int (nI Y)), (3, .int now), (4, .int (nI tc)), (5, .int (nI y2)), (6, .int (nI s))] → W pR l eR (rmF 4 0 0) sR mR aR bR tR cR H locs 0 0 QR (F0 mR 17 ls []) := by
    intro fu
    induction fu with
    | zero =>
      intro s y2 cs2 f w2 wn2 gg hs hy2 hf hTT hwn2 hg2 hbs2 hfu
      exact absurd hfu (Nat.not_lt_zero _)
    | succ fu ih_17 =>
      intro s y2 cs2 f w2 wn2 gg hs hy2 hf hTT hwn2 hg2 hbs2 hfu H locs hI ls hl
      refine lv_iload hxR hbR dX3_sends_17 (lv_at hl 6 rfl) ?_
      refine lv_if_eq (tgt := 76) hxR hbR dX3_sends_19 (by decide) (fun c_19 => ?_) (fun c_19 => ?_)
      · skip
        have c_19 : s = 0 := (n_eq (a := s) (b := 0) (by have := sub_lt (hs ▸ sentV_sub K csn n st kdm k9 y2 tc) hy2; omega) (by decide)).mp c_19
        refine lv_iload hxR hbR dX3_sends_76 (lv_at hl 5 rfl) ?_
        have hI : wI E AR sR H locs (dW E ad (va_up iv 5 (nI ((sndF (fun y => sentV K csn n st kdm k9 y tc) csn hrn now n 512 cs Y wt).1.length))) od (wrL co0 0 (sndF (fun y => sentV K csn n st kdm k9 y tc) csn hrn now n 512 cs Y wt).1) ((sndF (fun y => sentV K csn n st kdm k9 y tc) csn hrn now n 512 cs Y wt).2.2) (some (adn 10)) (some (adg 8)) ++ (manW E qm kdm am ++ (gW E adg ivg grg pag mog sgg (some (adn 10)) ++ (tW E adn ivn hrn csn (sK K))))) := by have e := hTT; rw [sndF_0 hf (hs ▸ c_19)] at e; rw [← e, ← hwn2, ← hg2]; exact hI
        exact hret () (nI y2) _ _ _ _ _ _ dX3_sends_78 hI (by show (nI y2) = nI (sndF (fun y => sentV K csn n st kdm k9 y tc) csn hrn now n 512 cs Y wt).2.1; have e := hTT; rw [sndF_0 hf (hs ▸ c_19)] at e; rw [← e]) (Nat.le_of_ble_eq_true rfl) (Nat.le_of_ble_eq_true rfl) rfl
      · skip
        have c_19 : ¬ s = 0 := fun zz => c_19 ((n_eq (a := s) (b := 0) (by have := sub_lt (hs ▸ sentV_sub K csn n st kdm k9 y2 tc) hy2; omega) (by decide)).mpr zz)
        have hsub : nd s y2 = 0 := hs ▸ sentV_sub K csn n st kdm k9 y2 tc
        have hs256 := sub_lt hsub (show y2 < 2 ^ 8 by omega)
        have hp8 := bits_pos 8 hs256 c_19
        have hbn := bits_nd hsub 8
        have hnl := nd_lt hsub c_19
        refine lv_aload_n hxR hbR dX3_sends_22 rfl (lv_at hl 0 rfl) ?_
        refine r_get hxR hbR hts hown hK hI okX3 (ci := 3) rfl 0 (he_l dW_o) 1 (by decide) q226 rfl (v := .ref (ad 1)) rfl dX3_sends_23 ?_
        refine lv_aload_n hxR hbR dX3_sends_26 rfl (lv_at hl 0 rfl) ?_
        refine r_get hxR hbR hts hown hK hI okX3 (ci := 3) rfl 0 (he_l dW_o) 5 (by decide) q232 rfl (v := .int (nI wn2)) (al va_up_s) dX3_sends_27 ?_
        refine lv_iload hxR hbR dX3_sends_30 (lv_at hl 6 rfl) ?_
        refine r_iast (ws1 := dW E ad (va_up iv 5 (nI wn2)) od (va_up gg wn2 (nI s)) w2 (some (adn 10)) (some (adg 8)) ++ (manW E qm kdm am ++ (gW E adg ivg grg pag mog sgg (some (adn 10)) ++ (tW E adn ivn hrn csn (sK K))))) hxR hbR hK hI 2 (n := 7) (J := wn2) (f := gg) (he_l (dW_g1 rfl)) (by omega) (by decide) (hw_l (Nat.le_of_ble_eq_true rfl) dW_a1) dX3_sends_32 (fun H locs hI => ?_)
        refine lv_aload_n hxR hbR dX3_sends_33 rfl (lv_at hl 0 rfl) ?_
        refine lv_dup hxR hbR dX3_sends_34 rfl ?_
        refine r_get hxR hbR hts hown hK hI okX3 (ci := 3) rfl 0 (he_l dW_o) 5 (by decide) q232 rfl (v := .int (nI wn2)) (al va_up_s) dX3_sends_35 ?_
        refine lv_iconst (v := 1) hxR hbR dX3_sends_38 (by decide) ?_
        refine lv_iadd hxR hbR dX3_sends_39 ?_
        refine lv_as (y := nI (wn2 + 1)) (nI_add wn2 1) ?_
        refine r_put (v := .int (nI (wn2 + 1))) (ws1 := dW E ad (va_up iv 5 (nI (wn2 + 1))) od (va_up gg wn2 (nI s)) w2 (some (adn 10)) (some (adg 8)) ++ (manW E qm kdm am ++ (gW E adg ivg grg pag mog sgg (some (adn 10)) ++ (tW E adn ivn hrn csn (sK K))))) hxR hbR hts hown hK hI okX3 (ci := 3) rfl 0 (he_l dW_o) 5 (by decide) q232 rfl rfl rfl rfl (Nat.le_of_ble_eq_true rfl) (hw_l (Nat.le_of_ble_eq_true rfl) (Eq.trans dW_i5 (dW_c up_0))) dX3_sends_40 (fun H locs hI => ?_)
        refine lv_aload_n hxR hbR dX3_sends_43 rfl (lv_at hl 0 rfl) ?_
        refine lv_iload hxR hbR dX3_sends_44 (lv_at hl 6 rfl) ?_
        refine lv_iload_n hxR hbR dX3_sends_46 rfl (lv_at hl 3 rfl) ?_
        have hI : wI E AR sR H locs (dW E ad (va_up iv 5 (nI (wn2 + 1))) od (va_up gg wn2 (nI s)) w2 (some (adn 10)) (some (adg 8)) ++ (tW E adn ivn hrn csn (sK K) ++ (manW E qm kdm am ++ (gW E adg ivg grg pag mog sgg (some (adn 10)))))) := wI_pick ([dW E ad (va_up iv 5 (nI (wn2 + 1))) od (va_up gg wn2 (nI s)) w2 (some (adn 10)) (some (adg 8)), manW E qm kdm am, gW E adg ivg grg pag mog sgg (some (adn 10)), tW E adn ivn hrn csn (sK K)]) [0, 3, 1, 2] 4 rfl (by decide) hI
        have hI := wI_w app2 hI
        refine kVV (n := 2) (As := [.int (nI s), .int now]) (rest := []) (fun w => w ++ (manW E qm kdm am ++ (gW E adg ivg grg pag mog sgg (some (adn 10))))) hxR hbR hmlR hts hown hK hA hl.1 (isCtx.suf _) hI (c3_leaves l E ad (va_up iv 5 (nI (wn2 + 1))) od (va_up gg wn2 (nI s)) w2 (some (adg 8)) adn ivn hrn csn K n s now hn (by first | omega | with_reducible assumption) (by first | omega | with_reducible assumption)) (lw_V q1241 q1243 qs22 q84 q1244) ⟨rfl, by decide +kernel⟩ 0 3 rfl rfl (he_l dW_o) rfl (Nat.le_of_ble_eq_true rfl) (Nat.le_of_ble_eq_true rfl) ⟨Nat.le_of_ble_eq_true rfl, Nat.le_of_ble_eq_true rfl⟩ (Nat.le_of_ble_eq_true rfl) dX3_sends_47 (fun u H locs hp hI hz => ?_)
        have hI := wI_w app2.symm hI
        have hI : wI E AR sR H locs (dW E ad (va_up iv 5 (nI (wn2 + 1))) od (va_up gg wn2 (nI s)) (leaveW csn hrn now s n w2) (some (adn 10)) (some (adg 8)) ++ (tW E adn ivn hrn csn (sK K) ++ (manW E qm kdm am ++ (gW E adg ivg grg pag mog sgg (some (adn 10)))))) := hI
        have hI : wI E AR sR H locs (dW E ad (va_up iv 5 (nI (wn2 + 1))) od (va_up gg wn2 (nI s)) (leaveW csn hrn now s n w2) (some (adn 10)) (some (adg 8)) ++ (manW E qm kdm am ++ (gW E adg ivg grg pag mog sgg (some (adn 10)) ++ (tW E adn ivn hrn csn (sK K))))) := wI_pick ([dW E ad (va_up iv 5 (nI (wn2 + 1))) od (va_up gg wn2 (nI s)) (leaveW csn hrn now s n w2) (some (adn 10)) (some (adg 8)), tW E adn ivn hrn csn (sK K), manW E qm kdm am, gW E adg ivg grg pag mog sgg (some (adn 10))]) [0, 2, 3, 1] 4 rfl (by decide) hI
        refine lv_iload hxR hbR dX3_sends_50 (lv_at hl 5 rfl) ?_
        refine lv_iload hxR hbR dX3_sends_52 (lv_at hl 6 rfl) ?_
        refine lv_iconst (v := (-1)) hxR hbR dX3_sends_54 (by decide) ?_
        refine lv_ixor hxR hbR dX3_sends_55 ?_
        refine lv_iand hxR hbR dX3_sends_56 ?_
        refine lv_as (y := nI (nd y2 s)) (nb_nd y2 s) ?_
        refine lv_istore (lv' := [(5, .int (nI (nd y2 s))), (0, .ref (ad 7)), (1, .ref qm), (2, .int (nI Y)), (3, .int now), (4, .int (nI tc)), (6, .int (nI s))]) hxR hbR dX3_sends_57 hl (by decide) rfl (fun ls hl => ?_)
        refine lv_aload_n hxR hbR dX3_sends_59 rfl (lv_at hl 2 rfl) ?_
        refine lv_aload_n hxR hbR dX3_sends_60 rfl (lv_at hl 1 rfl) ?_
        refine r_get hxR hbR hts hown hK hI okX3 (ci := 3) rfl 0 (he_l dW_o) 4 (by decide) q231 rfl (v := .ref (adg 8)) rfl dX3_sends_61 ?_
        refine lv_iload hxR hbR dX3_sends_64 (lv_at hl 0 rfl) ?_
        refine lv_iload hxR hbR dX3_sends_66 (lv_at hl 5 rfl) ?_
        refine kSends (n := 3) (As := [.ref (adg 8), .int (nI (nd y2 s)), .int (nI tc)]) (rest := []) (fun w => (dW E ad (va_up iv 5 (nI (wn2 + 1))) od (va_up gg wn2 (nI s)) (leaveW csn hrn now s n w2) (some (adn 10)) (some (adg 8))) ++ w) hxR hbR hmlR hts hown hK hA hl.1 (isCtx.pre _) hI (sends_ok l E qm kdm am adg ivg grg pag mog sgg adn ivn hrn csn K n st (nd y2 s) tc k9 (by first | omega | with_reducible assumption) (by first | omega | with_reducible assumption) hn hc (by first | omega | with_reducible assumption) (by first | omega | with_reducible assumption) (by first | omega | with_reducible assumption) (by first | omega | with_reducible assumption) (by first | omega | with_reducible assumption) (by first | omega | with_reducible assumption) (by first | omega | with_reducible assumption) (by first | omega | with_reducible assumption)) (by first | assumption | omega) (by first | assumption | omega) q1240 rfl rfl (Nat.le_of_ble_eq_true rfl) (Nat.le_of_ble_eq_true rfl) ⟨Nat.le_of_ble_eq_true rfl, Nat.le_of_ble_eq_true rfl⟩ (Nat.le_of_ble_eq_true rfl) dX3_sends_68 (fun r_68 u H locs hp hI hz => ?_)
        have hI : wI E AR sR H locs (dW E ad (va_up iv 5 (nI (wn2 + 1))) od (va_up gg wn2 (nI s)) (leaveW csn hrn now s n w2) (some (adn 10)) (some (adg 8)) ++ (manW E qm kdm am ++ (gW E adg ivg grg pag mog sgg (some (adn 10)) ++ (tW E adn ivn hrn csn (sK K))))) := hI
        have hp : r_68 = nI (sentV K csn n st kdm k9 (nd y2 s) tc) := hp
        have hr_68 := hp
        subst hr_68
        refine lv_istore (lv' := [(6, .int (nI (sentV K csn n st kdm k9 (nd y2 s) tc))), (5, .int (nI (nd y2 s))), (0, .ref (ad 7)), (1, .ref qm), (2, .int (nI Y)), (3, .int now), (4, .int (nI tc))]) hxR hbR dX3_sends_71 hl (by decide) rfl (fun ls hl => ?_)
        refine lv_goto (tgt := 17) hxR hbR dX3_sends_73 (by decide) ?_
        exact ih_17 (sentV K csn n st kdm k9 (nd y2 s) tc) (nd y2 s) (cs2 ++ [s]) (f - 1) (leaveW csn hrn now s n w2) (wn2 + 1) (va_up gg wn2 (nI s)) rfl (by first | omega | with_reducible assumption) (by omega) (by rw [← hTT, sndF_s hf (hs ▸ c_19), hs]) (by rw [hwn2, List.length_append]; rfl) (by rw [hg2, hwn2, wrL_push]) (by rw [List.length_append]; simp only [List.length_singleton]; omega) (by omega) _ _ hI _ (lv_sub hl [2, 3, 4, 5, 6, 1, 0] rfl)
  exact lp_17 _ (sentV K csn n st kdm k9 Y tc) Y cs 512 wt cs.length co rfl (by first | omega | with_reducible assumption) (by omega) rfl rfl hco hbs (Nat.lt_succ_self _) _ _ hI _ (lv_sub hl [2, 3, 4, 5, 6, 1, 0] rfl)

theorem c3_of (l : Launch) (E : En) (ad : Nat → Nat) (iv : Nat → Int32) (od : Nat → Int32) (co : Nat → Int32) (wt : Nat → Int32) (tn : Option Nat) (gn : Option Nat) (qm : Nat) (kdm : Nat) (am : Int32) (adg : Nat → Nat) (ivg : Nat → Int32) (grg : Nat → Int32) (pag : Nat → Int32) (mog : Nat → Int32) (sgg : Nat → Int32) (adn : Nat → Nat) (ivn : Nat → Int32) (hrn : Nat → Int32) (csn : Nat → Int32) (K : Nat → Nat → Int32) (n st k9 : Nat) (hn : ivn 3 = nI n) (hc : ivg 5 = nI (GL K n st).length) (hn7 : n ≤ 7) (hL : gL grg (GL K n st)) (hM : (∀ Z, Z < 2 ^ n → mog Z = nI (mostV (GL K n st) Z))) (hsg : (∀ p, p < n → sgg p = nI (strS K p n))) (h9 : k9 < 100) (ha : am = nI k9) (h1 : 1 ≤ kdm) (h5 : kdm ≤ 5) (hh : (∀ q, q < n → ∃ x, x < 24 ∧ hrn q = nI x)) : CtT l E yX3_of cX3_of 6 (Jvm.ClassFile.FieldType.object "ThreeStrangers$Day") 5 0 0 [.ref (ad 7), .ref (adn 10), .ref (adg 8), .ref qm] (dW E ad iv od co wt tn gn ++ (manW E qm kdm am ++ (gW E adg ivg grg pag mog sgg (some (adn 10)) ++ (tW E adn ivn hrn csn (sK K))))) (fun (u : Unit) => True) (fun (u : Unit) => dW E ad (va_up (va_up iv 5 (nI ((dayP K csn hrn n st kdm k9 wt n).1.length))) 6 (nI ((dayP K csn hrn n st kdm k9 wt n).2.1))) (wrL od 0 (comL hrn n)) (wrL co 0 (dayP K csn hrn n st kdm k9 wt n).1) (leaveW csn hrn 24 (dayP K csn hrn n st kdm k9 wt n).2.1 n (dayP K csn hrn n st kdm k9 wt n).2.2) (some (adn 10)) (some (adg 8)) ++ (manW E qm kdm am ++ (gW E adg ivg grg pag mog sgg (some (adn 10)) ++ (tW E adn ivn hrn csn (sK K))))) (fun (u : Unit) => ad 7) := by
  have h27 : 2 ^ n ≤ 2 ^ 7 := Nat.pow_le_pow_right (by decide) hn7
  have hcl := comL_len (hour := hrn) hh
  refine CtT.of (by decide +kernel) (Nat.le_of_ble_eq_true rfl) (by first | exact Or.inl ⟨_, rfl⟩ | exact Or.inr ⟨_, rfl⟩) ?_
  intro pR eR sR mR aR bR tR cR AR ls QR hxR hbR hmlR hts hown hlk hnm hA hK hI hl hret
  have hl : lv_has ls 6 [(0, .ref (ad 7)), (1, .ref (adn 10)), (2, .ref (adg 8)), (3, .ref qm)] := hl
  refine lv_aload_n hxR hbR dX3_of_0 rfl (lv_at hl 0 rfl) ?_
  refine lv_aload_n hxR hbR dX3_of_1 rfl (lv_at hl 1 rfl) ?_
  refine r_put (v := .ref (adn 10)) (ws1 := dW E ad iv od co wt (some (adn 10)) gn ++ (manW E qm kdm am ++ (gW E adg ivg grg pag mog sgg (some (adn 10)) ++ (tW E adn ivn hrn csn (sK K))))) hxR hbR hts hown hK hI okX3 (ci := 3) rfl 0 (he_l dW_o) 3 (by decide) q230 rfl rfl rfl rfl (Nat.le_of_ble_eq_true rfl) (hw_l (Nat.le_of_ble_eq_true rfl) dW_r3) dX3_of_2 (fun H locs hI => ?_)
  refine lv_aload_n hxR hbR dX3_of_5 rfl (lv_at hl 0 rfl) ?_
  refine lv_aload_n hxR hbR dX3_of_6 rfl (lv_at hl 2 rfl) ?_
  refine r_put (v := .ref (adg 8)) (ws1 := dW E ad iv od co wt (some (adn 10)) (some (adg 8)) ++ (manW E qm kdm am ++ (gW E adg ivg grg pag mog sgg (some (adn 10)) ++ (tW E adn ivn hrn csn (sK K))))) hxR hbR hts hown hK hI okX3 (ci := 3) rfl 0 (he_l dW_o) 4 (by decide) q231 rfl rfl rfl rfl (Nat.le_of_ble_eq_true rfl) (hw_l (Nat.le_of_ble_eq_true rfl) dW_r4) dX3_of_7 (fun H locs hI => ?_)
  refine lv_aload_n hxR hbR dX3_of_10 rfl (lv_at hl 0 rfl) ?_
  refine lv_iconst (v := 0) hxR hbR dX3_of_11 (by decide) ?_
  refine r_put (v := .int 0) (ws1 := dW E ad (va_up iv 5 0) od co wt (some (adn 10)) (some (adg 8)) ++ (manW E qm kdm am ++ (gW E adg ivg grg pag mog sgg (some (adn 10)) ++ (tW E adn ivn hrn csn (sK K))))) hxR hbR hts hown hK hI okX3 (ci := 3) rfl 0 (he_l dW_o) 5 (by decide) q232 rfl rfl rfl rfl (Nat.le_of_ble_eq_true rfl) (hw_l (Nat.le_of_ble_eq_true rfl) dW_i5) dX3_of_12 (fun H locs hI => ?_)
  refine lv_iconst (v := 0) hxR hbR dX3_of_15 (by decide) ?_
  refine lv_istore (lv' := [(4, .int 0), (0, .ref (ad 7)), (1, .ref (adn 10)), (2, .ref (adg 8)), (3, .ref qm)]) hxR hbR dX3_of_16 hl (by decide) rfl (fun ls hl => ?_)
  refine lv_aload_n hxR hbR dX3_of_18 rfl (lv_at hl 1 rfl) ?_
  have hI : wI E AR sR H locs (dW E ad (va_up iv 5 0) od co wt (some (adn 10)) (some (adg 8)) ++ (tW E adn ivn hrn csn (sK K) ++ (manW E qm kdm am ++ (gW E adg ivg grg pag mog sgg (some (adn 10)))))) := wI_pick ([dW E ad (va_up iv 5 0) od co wt (some (adn 10)) (some (adg 8)), manW E qm kdm am, gW E adg ivg grg pag mog sgg (some (adn 10)), tW E adn ivn hrn csn (sK K)]) [0, 3, 1, 2] 4 rfl (by decide) hI
  have hI := wI_w app2 hI
  refine kVV (n := 0) (As := []) (rest := []) (fun w => w ++ (manW E qm kdm am ++ (gW E adg ivg grg pag mog sgg (some (adn 10))))) hxR hbR hmlR hts hown hK hA hl.1 (isCtx.suf _) hI (c3_comes l E ad (va_up iv 5 0) od co wt (some (adg 8)) adn ivn hrn csn K n hn (by first | omega | with_reducible assumption)) (lw_V q1232 q1234 qs20 q84 q1235) ⟨rfl, by decide +kernel⟩ 0 3 rfl rfl (he_l dW_o) rfl (Nat.le_of_ble_eq_true rfl) (Nat.le_of_ble_eq_true rfl) ⟨Nat.le_of_ble_eq_true rfl, Nat.le_of_ble_eq_true rfl⟩ (Nat.le_of_ble_eq_true rfl) dX3_of_19 (fun u H locs hp hI hz => ?_)
  have hI := wI_w app2.symm hI
  have hI : wI E AR sR H locs (dW E ad (va_up iv 5 0) (wrL od 0 (comL hrn n)) co wt (some (adn 10)) (some (adg 8)) ++ (tW E adn ivn hrn csn (sK K) ++ (manW E qm kdm am ++ (gW E adg ivg grg pag mog sgg (some (adn 10)))))) := hI
  have hI : wI E AR sR H locs (dW E ad (va_up iv 5 0) (wrL od 0 (comL hrn n)) co wt (some (adn 10)) (some (adg 8)) ++ (manW E qm kdm am ++ (gW E adg ivg grg pag mog sgg (some (adn 10)) ++ (tW E adn ivn hrn csn (sK K))))) := wI_pick ([dW E ad (va_up iv 5 0) (wrL od 0 (comL hrn n)) co wt (some (adn 10)) (some (adg 8)), tW E adn ivn hrn csn (sK K), manW E qm kdm am, gW E adg ivg grg pag mog sgg (some (adn 10))]) [0, 2, 3, 1] 4 rfl (by decide) hI
  refine lv_iconst (v := 0) hxR hbR dX3_of_22 (by decide) ?_
  refine lv_istore (lv' := [(5, .int 0), (4, .int 0), (0, .ref (ad 7)), (1, .ref (adn 10)), (2, .ref (adg 8)), (3, .ref qm)]) hxR hbR dX3_of_23 hl (by decide) rfl (fun ls hl => ?_)
  have lp_25 : ∀ (fu : Nat) (k : Nat) (y : Nat) (cs : List Nat) (wv : Nat → Int32) (wn : Nat) (g : Nat → Int32), (k ≤ n) → ((cs, y, wv) = dayP K csn hrn n st kdm k9 wt k) → (wn = cs.length) → (g = wrL co 0 cs) → (y < 2 ^ n) → (cs.length + bitsN y 8 ≤ k) → n - k < fu → ∀ (H : Heap) (locs : List Loc), wI E AR sR H locs (dW E ad (va_up iv 5 (nI wn)) (wrL od 0 (comL hrn n)) g wv (some (adn 10)) (some (adg 8)) ++ (manW E qm kdm am ++ (gW E adg ivg grg pag mog sgg (some (adn 10)) ++ (tW E adn ivn hrn csn (sK K))))) → ∀ ls : Array Slot, lv_has ls 6 [(0, .ref (ad 7)), (1, .ref (adn 10)), (2, .ref (adg 8)), (3, .ref qm), (4, .int (nI y)), (5, .int (nI k))] → W pR l eR (rmF 5 0 0) sR mR aR bR tR cR H locs 0 0 QR (F0 mR 25 ls []) := by
    intro fu
    induction fu with
    | zero =>
      intro k y cs wv wn g hk hT hwn hg hy hbs hfu
      exact absurd hfu (Nat.not_lt_zero _)
    | succ fu ih_25 =>
      intro k y cs wv wn g hk hT hwn hg hy hbs hfu H locs hI ls hl
      subst hwn
      subst hg
      refine lv_iload hxR hbR dX3_of_25 (lv_at hl 5 rfl) ?_
      refine lv_aload_n hxR hbR dX3_of_27 rfl (lv_at hl 0 rfl) ?_
      refine r_get hxR hbR hts hown hK hI okX3 (ci := 3) rfl 0 (he_l dW_o) 3 (by decide) q230 rfl (v := .ref (adn 10)) rfl dX3_of_28 ?_
      refine r_get hxR hbR hts hown hK hI okX1 (ci := 1) rfl (4 + (1 + (5 + 0))) (he_r (Nat.le_of_ble_eq_true rfl) (Nat.le_of_ble_eq_true rfl) (he_r (Nat.le_of_ble_eq_true rfl) (Nat.le_of_ble_eq_true rfl) (he_r (Nat.le_of_ble_eq_true rfl) (Nat.le_of_ble_eq_true rfl) tW_o))) 3 (by decide) q141 rfl (v := .int (nI n)) (al hn) dX3_of_31 ?_
      refine lv_icmp_ge (tgt := 93) hxR hbR dX3_of_34 (by decide) (fun c_34 => ?_) (fun c_34 => ?_)
      · skip
        have c_34 : n ≤ k := (n_le (a := n) (b := k) (by omega) (by omega)).mp c_34
        refine lv_aload_n hxR hbR dX3_of_93 rfl (lv_at hl 0 rfl) ?_
        refine lv_iload hxR hbR dX3_of_94 (lv_at hl 4 rfl) ?_
        refine r_put (v := .int (nI y)) (ws1 := dW E ad (va_up (va_up iv 5 (nI cs.length)) 6 (nI y)) (wrL od 0 (comL hrn n)) (wrL co 0 cs) wv (some (adn 10)) (some (adg 8)) ++ (manW E qm kdm am ++ (gW E adg ivg grg pag mog sgg (some (adn 10)) ++ (tW E adn ivn hrn csn (sK K))))) hxR hbR hts hown hK hI okX3 (ci := 3) rfl 0 (he_l dW_o) 6 (by decide) q234 rfl rfl rfl rfl (Nat.le_of_ble_eq_true rfl) (hw_l (Nat.le_of_ble_eq_true rfl) dW_i6) dX3_of_96 (fun H locs hI => ?_)
        refine lv_aload_n hxR hbR dX3_of_99 rfl (lv_at hl 0 rfl) ?_
        refine lv_aload_n hxR hbR dX3_of_100 rfl (lv_at hl 0 rfl) ?_
        refine r_get hxR hbR hts hown hK hI okX3 (ci := 3) rfl 0 (he_l dW_o) 6 (by decide) q234 rfl (v := .int (nI y)) (al va_up_s) dX3_of_101 ?_
        refine lv_bipush (v := 24) hxR hbR dX3_of_104 (by decide) ?_
        have hI : wI E AR sR H locs (dW E ad (va_up (va_up iv 5 (nI cs.length)) 6 (nI y)) (wrL od 0 (comL hrn n)) (wrL co 0 cs) wv (some (adn 10)) (some (adg 8)) ++ (tW E adn ivn hrn csn (sK K) ++ (manW E qm kdm am ++ (gW E adg ivg grg pag mog sgg (some (adn 10)))))) := wI_pick ([dW E ad (va_up (va_up iv 5 (nI cs.length)) 6 (nI y)) (wrL od 0 (comL hrn n)) (wrL co 0 cs) wv (some (adn 10)) (some (adg 8)), manW E qm kdm am, gW E adg ivg grg pag mog sgg (some (adn 10)), tW E adn ivn hrn csn (sK K)]) [0, 3, 1, 2] 4 rfl (by decide) hI
        have hI := wI_w app2 hI
        refine kVV (n := 2) (As := [.int (nI y), .int 24]) (rest := []) (fun w => w ++ (manW E qm kdm am ++ (gW E adg ivg grg pag mog sgg (some (adn 10))))) hxR hbR hmlR hts hown hK hA hl.1 (isCtx.suf _) hI (c3_leaves l E ad (va_up (va_up iv 5 (nI cs.length)) 6 (nI y)) (wrL od 0 (comL hrn n)) (wrL co 0 cs) wv (some (adg 8)) adn ivn hrn csn K n y 24 hn (by first | omega | with_reducible assumption) (by first | omega | with_reducible assumption)) (lw_V q1241 q1243 qs22 q84 q1244) ⟨rfl, by decide +kernel⟩ 0 3 rfl rfl (he_l dW_o) rfl (Nat.le_of_ble_eq_true rfl) (Nat.le_of_ble_eq_true rfl) ⟨Nat.le_of_ble_eq_true rfl, Nat.le_of_ble_eq_true rfl⟩ (Nat.le_of_ble_eq_true rfl) dX3_of_106 (fun u H locs hp hI hz => ?_)
        have hI := wI_w app2.symm hI
        have hI : wI E AR sR H locs (dW E ad (va_up (va_up iv 5 (nI cs.length)) 6 (nI y)) (wrL od 0 (comL hrn n)) (wrL co 0 cs) (leaveW csn hrn 24 y n wv) (some (adn 10)) (some (adg 8)) ++ (tW E adn ivn hrn csn (sK K) ++ (manW E qm kdm am ++ (gW E adg ivg grg pag mog sgg (some (adn 10)))))) := hI
        have hI : wI E AR sR H locs (dW E ad (va_up (va_up iv 5 (nI cs.length)) 6 (nI y)) (wrL od 0 (comL hrn n)) (wrL co 0 cs) (leaveW csn hrn 24 y n wv) (some (adn 10)) (some (adg 8)) ++ (manW E qm kdm am ++ (gW E adg ivg grg pag mog sgg (some (adn 10)) ++ (tW E adn ivn hrn csn (sK K))))) := wI_pick ([dW E ad (va_up (va_up iv 5 (nI cs.length)) 6 (nI y)) (wrL od 0 (comL hrn n)) (wrL co 0 cs) (leaveW csn hrn 24 y n wv) (some (adn 10)) (some (adg 8)), tW E adn ivn hrn csn (sK K), manW E qm kdm am, gW E adg ivg grg pag mog sgg (some (adn 10))]) [0, 2, 3, 1] 4 rfl (by decide) hI
        refine lv_aload_n hxR hbR dX3_of_109 rfl (lv_at hl 0 rfl) ?_
        have hI : wI E AR sR H locs (dW E ad (va_up (va_up iv 5 (nI ((dayP K csn hrn n st kdm k9 wt n).1.length))) 6 (nI ((dayP K csn hrn n st kdm k9 wt n).2.1))) (wrL od 0 (comL hrn n)) (wrL co 0 (dayP K csn hrn n st kdm k9 wt n).1) (leaveW csn hrn 24 (dayP K csn hrn n st kdm k9 wt n).2.1 n (dayP K csn hrn n st kdm k9 wt n).2.2) (some (adn 10)) (some (adg 8)) ++ (manW E qm kdm am ++ (gW E adg ivg grg pag mog sgg (some (adn 10)) ++ (tW E adn ivn hrn csn (sK K))))) := by rw [show k = n by omega] at hT; rw [← hT]; exact hI
        exact hret () _ _ _ _ _ _ dX3_of_110 hI trivial (Nat.le_of_ble_eq_true rfl) (Nat.le_of_ble_eq_true rfl)
      · skip
        have c_34 : k < n := Nat.lt_of_not_le (fun zz => c_34 ((n_le (a := n) (b := k) (by omega) (by omega)).mpr zz))
        have hck : (comL hrn n).getD k 0 < n := comH_mem 24 _ (getD_mem (L := comL hrn n) (i := k) (by rw [hcl]; omega))
        have hck2 : 2 ^ ((comL hrn n).getD k 0) < 2 ^ n := Nat.pow_lt_pow_right (by decide) (by omega)
        have hyy := or_lt (n := n) hy hck2
        have hbo := bits_or y ((comL hrn n).getD k 0) 8
        refine lv_iload hxR hbR dX3_of_37 (lv_at hl 4 rfl) ?_
        refine lv_iconst (v := 1) hxR hbR dX3_of_39 (by decide) ?_
        refine lv_aload_n hxR hbR dX3_of_40 rfl (lv_at hl 0 rfl) ?_
        refine r_get hxR hbR hts hown hK hI okX3 (ci := 3) rfl 0 (he_l dW_o) 0 (by decide) q225 rfl (v := .ref (ad 0)) rfl dX3_of_41 ?_
        refine lv_iload hxR hbR dX3_of_44 (lv_at hl 5 rfl) ?_
        refine r_iald hxR hbR hK hI 1 (n := 7) (J := k) (f := wrL od 0 (comL hrn n)) (v := nI ((comL hrn n).getD k 0)) (he_l (dW_g0 rfl)) (by omega) (by decide) (wrL_in _ (by rw [hcl]; omega)) dX3_of_46 ?_
        refine lv_ishl hxR hbR dX3_of_47 ?_
        refine lv_as (y := nI (2 ^ ((comL hrn n).getD k 0))) (nb_shl ((comL hrn n).getD k 0) (by omega)) ?_
        refine lv_ior hxR hbR dX3_of_48 ?_
        refine lv_as (y := nI (y ||| (2 ^ ((comL hrn n).getD k 0)))) (nb_or y (2 ^ ((comL hrn n).getD k 0))) ?_
        refine lv_istore (lv' := [(4, .int (nI (y ||| (2 ^ ((comL hrn n).getD k 0))))), (0, .ref (ad 7)), (1, .ref (adn 10)), (2, .ref (adg 8)), (3, .ref qm), (5, .int (nI k))]) hxR hbR dX3_of_49 hl (by decide) rfl (fun ls hl => ?_)
        refine lv_aload_n hxR hbR dX3_of_51 rfl (lv_at hl 1 rfl) ?_
        refine lv_aload_n hxR hbR dX3_of_52 rfl (lv_at hl 4 rfl) ?_
        refine lv_iload hxR hbR dX3_of_53 (lv_at hl 0 rfl) ?_
        refine lv_aload_n hxR hbR dX3_of_55 rfl (lv_at hl 1 rfl) ?_
        refine r_get hxR hbR hts hown hK hI okX3 (ci := 3) rfl 0 (he_l dW_o) 3 (by decide) q230 rfl (v := .ref (adn 10)) rfl dX3_of_56 ?_
        refine r_get hxR hbR hts hown hK hI okX1 (ci := 1) rfl (4 + (1 + (5 + 0))) (he_r (Nat.le_of_ble_eq_true rfl) (Nat.le_of_ble_eq_true rfl) (he_r (Nat.le_of_ble_eq_true rfl) (Nat.le_of_ble_eq_true rfl) (he_r (Nat.le_of_ble_eq_true rfl) (Nat.le_of_ble_eq_true rfl) tW_o))) 0 (by decide) q132 rfl (v := .ref (adn 0)) rfl dX3_of_59 ?_
        refine lv_aload_n hxR hbR dX3_of_62 rfl (lv_at hl 1 rfl) ?_
        refine r_get hxR hbR hts hown hK hI okX3 (ci := 3) rfl 0 (he_l dW_o) 0 (by decide) q225 rfl (v := .ref (ad 0)) rfl dX3_of_63 ?_
        refine lv_iload hxR hbR dX3_of_66 (lv_at hl 5 rfl) ?_
        refine r_iald hxR hbR hK hI 1 (n := 7) (J := k) (f := wrL od 0 (comL hrn n)) (v := nI ((comL hrn n).getD k 0)) (he_l (dW_g0 rfl)) (by omega) (by decide) (wrL_in _ (by rw [hcl]; omega)) dX3_of_68 ?_
        refine r_iald hxR hbR hK hI (4 + (1 + (5 + 1))) (n := 7) (J := (comL hrn n).getD k 0) (f := hrn) (v := hrn ((comL hrn n).getD k 0)) (he_r (Nat.le_of_ble_eq_true rfl) (Nat.le_of_ble_eq_true rfl) (he_r (Nat.le_of_ble_eq_true rfl) (Nat.le_of_ble_eq_true rfl) (he_r (Nat.le_of_ble_eq_true rfl) (Nat.le_of_ble_eq_true rfl) (tW_g0 rfl)))) (by omega) (by decide) rfl dX3_of_69 ?_
        refine lv_aload_n hxR hbR dX3_of_70 rfl (lv_at hl 1 rfl) ?_
        refine r_get hxR hbR hts hown hK hI okX3 (ci := 3) rfl 0 (he_l dW_o) 3 (by decide) q230 rfl (v := .ref (adn 10)) rfl dX3_of_71 ?_
        refine r_get hxR hbR hts hown hK hI okX1 (ci := 1) rfl (4 + (1 + (5 + 0))) (he_r (Nat.le_of_ble_eq_true rfl) (Nat.le_of_ble_eq_true rfl) (he_r (Nat.le_of_ble_eq_true rfl) (Nat.le_of_ble_eq_true rfl) (he_r (Nat.le_of_ble_eq_true rfl) (Nat.le_of_ble_eq_true rfl) tW_o))) 3 (by decide) q141 rfl (v := .int (nI n)) (al hn) dX3_of_74 ?_
        refine lv_iconst (v := 1) hxR hbR dX3_of_77 (by decide) ?_
        refine lv_isub hxR hbR dX3_of_78 ?_
        refine lv_as (y := nI (n - 1)) (pk_sub (a := n) (b := 1) (by omega)) ?_
        refine lv_iload hxR hbR dX3_of_79 (lv_at hl 5 rfl) ?_
        refine lv_isub hxR hbR dX3_of_81 ?_
        refine lv_as (y := nI ((n - 1) - k)) (pk_sub (a := n - 1) (b := k) (by omega)) ?_
        refine kVI (n := 4) (As := [.ref qm, .int (nI (y ||| (2 ^ ((comL hrn n).getD k 0)))), .int (hrn ((comL hrn n).getD k 0)), .int (nI ((n - 1) - k))]) (rest := []) (fun w => w) hxR hbR hmlR hts hown hK hA hl.1 isCtx.id hI (c3_sends l E ad (va_up iv 5 (nI cs.length)) (wrL od 0 (comL hrn n)) (wrL co 0 cs) wv qm kdm am adg ivg grg pag mog sgg adn ivn hrn csn K n st (y ||| (2 ^ ((comL hrn n).getD k 0))) ((n - 1) - k) k9 (hrn ((comL hrn n).getD k 0)) cs co hn hc (by first | omega | with_reducible assumption) (by first | omega | with_reducible assumption) (by first | omega | with_reducible assumption) (by first | omega | with_reducible assumption) (by first | omega | with_reducible assumption) (by first | omega | with_reducible assumption) (by first | omega | with_reducible assumption) (by first | omega | with_reducible assumption) rfl rfl (by first | omega | with_reducible assumption) (by first | omega | with_reducible assumption) (by first | omega | with_reducible assumption)) (lw_V q1236 q1238 qs21 q84 q1239) ⟨rfl, by decide +kernel⟩ 0 3 rfl rfl (he_l dW_o) rfl (Nat.le_of_ble_eq_true rfl) (Nat.le_of_ble_eq_true rfl) ⟨Nat.le_of_ble_eq_true rfl, Nat.le_of_ble_eq_true rfl⟩ (Nat.le_of_ble_eq_true rfl) dX3_of_82 (fun r_82 u H locs hp hI hz => ?_)
        have hI : wI E AR sR H locs (dW E ad (va_up (va_up iv 5 (nI cs.length)) 5 (nI ((sndF (fun y => sentV K csn n st kdm k9 y ((n - 1) - k)) csn hrn (hrn ((comL hrn n).getD k 0)) n 512 cs (y ||| (2 ^ ((comL hrn n).getD k 0))) wv).1.length))) (wrL od 0 (comL hrn n)) (wrL co 0 (sndF (fun y => sentV K csn n st kdm k9 y ((n - 1) - k)) csn hrn (hrn ((comL hrn n).getD k 0)) n 512 cs (y ||| (2 ^ ((comL hrn n).getD k 0))) wv).1) ((sndF (fun y => sentV K csn n st kdm k9 y ((n - 1) - k)) csn hrn (hrn ((comL hrn n).getD k 0)) n 512 cs (y ||| (2 ^ ((comL hrn n).getD k 0))) wv).2.2) (some (adn 10)) (some (adg 8)) ++ (manW E qm kdm am ++ (gW E adg ivg grg pag mog sgg (some (adn 10)) ++ (tW E adn ivn hrn csn (sK K))))) := hI
        have hI := wI_w (ws' := dW E ad (va_up iv 5 (nI ((sndF (fun y => sentV K csn n st kdm k9 y ((n - 1) - k)) csn hrn (hrn ((comL hrn n).getD k 0)) n 512 cs (y ||| (2 ^ ((comL hrn n).getD k 0))) wv).1.length))) (wrL od 0 (comL hrn n)) (wrL co 0 (sndF (fun y => sentV K csn n st kdm k9 y ((n - 1) - k)) csn hrn (hrn ((comL hrn n).getD k 0)) n 512 cs (y ||| (2 ^ ((comL hrn n).getD k 0))) wv).1) ((sndF (fun y => sentV K csn n st kdm k9 y ((n - 1) - k)) csn hrn (hrn ((comL hrn n).getD k 0)) n 512 cs (y ||| (2 ^ ((comL hrn n).getD k 0))) wv).2.2) (some (adn 10)) (some (adg 8)) ++ (manW E qm kdm am ++ (gW E adg ivg grg pag mog sgg (some (adn 10)) ++ (tW E adn ivn hrn csn (sK K))))) (by rw [(show (va_up iv 5 (nI ((sndF (fun y => sentV K csn n st kdm k9 y ((n - 1) - k)) csn hrn (hrn ((comL hrn n).getD k 0)) n 512 cs (y ||| (2 ^ ((comL hrn n).getD k 0))) wv).1.length))) = (va_up (va_up iv 5 (nI cs.length)) 5 (nI ((sndF (fun y => sentV K csn n st kdm k9 y ((n - 1) - k)) csn hrn (hrn ((comL hrn n).getD k 0)) n 512 cs (y ||| (2 ^ ((comL hrn n).getD k 0))) wv).1.length))) from (up_0).symm)]) hI
        have hI : wI E AR sR H locs (dW E ad (va_up iv 5 (nI ((sndF (fun y => sentV K csn n st kdm k9 y ((n - 1) - k)) csn hrn (hrn ((comL hrn n).getD k 0)) n 512 cs (y ||| (2 ^ ((comL hrn n).getD k 0))) wv).1.length))) (wrL od 0 (comL hrn n)) (wrL co 0 (sndF (fun y => sentV K csn n st kdm k9 y ((n - 1) - k)) csn hrn (hrn ((comL hrn n).getD k 0)) n 512 cs (y ||| (2 ^ ((comL hrn n).getD k 0))) wv).1) ((sndF (fun y => sentV K csn n st kdm k9 y ((n - 1) - k)) csn hrn (hrn ((comL hrn n).getD k 0)) n 512 cs (y ||| (2 ^ ((comL hrn n).getD k 0))) wv).2.2) (some (adn 10)) (some (adg 8)) ++ (manW E qm kdm am ++ (gW E adg ivg grg pag mog sgg (some (adn 10)) ++ (tW E adn ivn hrn csn (sK K))))) := hI
        have hp : r_82 = nI (sndF (fun y => sentV K csn n st kdm k9 y ((n - 1) - k)) csn hrn (hrn ((comL hrn n).getD k 0)) n 512 cs (y ||| (2 ^ ((comL hrn n).getD k 0))) wv).2.1 := hp
        have hr_82 := hp
        subst hr_82
        have hlen := sndF_len (sent := fun y => sentV K csn n st kdm k9 y (n - 1 - k)) (cost := csn) (hour := hrn) (now := hrn ((comL hrn n).getD k 0)) (n := n) (fun y => sentV_sub K csn n st kdm k9 y (n - 1 - k)) 512 cs (y ||| 2 ^ ((comL hrn n).getD k 0)) wv (by omega)
        have hsb := sndF_sub (sent := fun y => sentV K csn n st kdm k9 y (n - 1 - k)) (cost := csn) (hour := hrn) (now := hrn ((comL hrn n).getD k 0)) (n := n) 512 cs (y ||| 2 ^ ((comL hrn n).getD k 0)) wv
        have hbo2 : cs.length + bitsN (y ||| 2 ^ ((comL hrn n).getD k 0)) 8 ≤ k + 1 := by omega
        refine lv_istore (lv' := [(4, .int (nI ((sndF (fun y => sentV K csn n st kdm k9 y ((n - 1) - k)) csn hrn (hrn ((comL hrn n).getD k 0)) n 512 cs (y ||| (2 ^ ((comL hrn n).getD k 0))) wv).2.1))), (0, .ref (ad 7)), (1, .ref (adn 10)), (2, .ref (adg 8)), (3, .ref qm), (5, .int (nI k))]) hxR hbR dX3_of_85 hl (by decide) rfl (fun ls hl => ?_)
        refine lv_iinc (v := nI (k + 1)) (lv' := [(5, .int (nI (k + 1))), (4, .int (nI ((sndF (fun y => sentV K csn n st kdm k9 y ((n - 1) - k)) csn hrn (hrn ((comL hrn n).getD k 0)) n 512 cs (y ||| (2 ^ ((comL hrn n).getD k 0))) wv).2.1))), (0, .ref (ad 7)), (1, .ref (adn 10)), (2, .ref (adg 8)), (3, .ref qm)]) hxR hbR dX3_of_87 hl (k := 5) rfl (show nI k + 1 = nI (k + 1) from nI_add _ 1) (by decide) rfl (fun ls hl => ?_)
        refine lv_goto (tgt := 25) hxR hbR dX3_of_90 (by decide) ?_
        exact ih_25 (k + 1) ((sndF (fun y => sentV K csn n st kdm k9 y ((n - 1) - k)) csn hrn (hrn ((comL hrn n).getD k 0)) n 512 cs (y ||| (2 ^ ((comL hrn n).getD k 0))) wv).2.1) ((sndF (fun y => sentV K csn n st kdm k9 y (n - 1 - k)) csn hrn (hrn ((comL hrn n).getD k 0)) n 512 cs (y ||| 2 ^ ((comL hrn n).getD k 0)) wv).1) ((sndF (fun y => sentV K csn n st kdm k9 y ((n - 1) - k)) csn hrn (hrn ((comL hrn n).getD k 0)) n 512 cs (y ||| (2 ^ ((comL hrn n).getD k 0))) wv).2.2) ((sndF (fun y => sentV K csn n st kdm k9 y ((n - 1) - k)) csn hrn (hrn ((comL hrn n).getD k 0)) n 512 cs (y ||| (2 ^ ((comL hrn n).getD k 0))) wv).1.length) (wrL co 0 (sndF (fun y => sentV K csn n st kdm k9 y ((n - 1) - k)) csn hrn (hrn ((comL hrn n).getD k 0)) n 512 cs (y ||| (2 ^ ((comL hrn n).getD k 0))) wv).1) (by first | omega | with_reducible assumption) (dayP_s hT) rfl rfl (Nat.lt_of_le_of_lt hsb hyy) (Nat.le_trans hlen hbo2) (by omega) _ _ hI _ (lv_sub hl [2, 3, 4, 5, 1, 0] rfl)
  exact lp_25 _ 0 0 ([]) wt 0 co (by first | omega | with_reducible assumption) rfl rfl (wrL_nil _ _).symm (Nat.two_pow_pos n) (by decide) (Nat.lt_succ_self _) _ _ hI _ (lv_sub hl [2, 3, 4, 5, 1, 0] rfl)
