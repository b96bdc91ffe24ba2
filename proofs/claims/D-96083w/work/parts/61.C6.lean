theorem c7_init (l : Launch) (E : En) (q : Nat) (kd : Nat) (a : Int32) (x : Int32) (h1 : 1 ≤ kd) (h5 : kd ≤ 5) : CtV l E yX7_init cX7_init 2 1 0 0 [.ref q, .int x] (manW E q kd a) (fun (u : Unit) => True) (fun (u : Unit) => manW E q kd x) := by
  refine CtV.of (by decide +kernel) (Nat.le_of_ble_eq_true rfl) ?_
  intro pR eR sR mR aR bR tR cR AR ls QR hxR hbR hmlR hts hown hlk hnm hA hK hI hl hret
  have hl : lv_has ls 2 [(0, .ref q), (1, .int x)] := hl
  refine lv_aload_n hxR hbR dX7_init_0 rfl (lv_at hl 0 rfl) ?_
  refine W.objInit hxR hbR hown (hts _ q564) (hts _ q123) (hts _ q124) rfl (by rw [hmlR]; exact hl.1) rfl dX7_init_1 (Nat.le_of_ble_eq_true rfl) (Nat.le_of_ble_eq_true rfl) ?_
  refine W.eq (g2 := F0 mR 4 ls []) rfl ?_
  refine lv_aload_n hxR hbR dX7_init_4 rfl (lv_at hl 0 rfl) ?_
  refine lv_iload_n hxR hbR dX7_init_5 rfl (lv_at hl 1 rfl) ?_
  refine r_manput hxR hbR hts hown hK h1 h5 hI q565 hnm dX7_init_6 (fun H locs hI => ?_)
  exact hret () _ _ _ _ _ _ dX7_init_9 hI (by first | rfl | trivial | assumption | simp_all) (Nat.le_of_ble_eq_true rfl) (Nat.le_of_ble_eq_true rfl)

theorem c8_init (l : Launch) (E : En) (q : Nat) (kd : Nat) (a : Int32) (x : Int32) (h1 : 1 ≤ kd) (h5 : kd ≤ 5) : CtV l E yX8_init cX8_init 2 2 0 0 [.ref q, .int x] (manW E q kd a) (fun (u : Unit) => True) (fun (u : Unit) => manW E q kd x) := by
  refine CtV.of (by decide +kernel) (Nat.le_of_ble_eq_true rfl) ?_
  intro pR eR sR mR aR bR tR cR AR ls QR hxR hbR hmlR hts hown hlk hnm hA hK hI hl hret
  have hl : lv_has ls 2 [(0, .ref q), (1, .int x)] := hl
  refine lv_aload_n hxR hbR dX8_init_0 rfl (lv_at hl 0 rfl) ?_
  refine lv_iload_n hxR hbR dX8_init_1 rfl (lv_at hl 1 rfl) ?_
  refine kIV (n := 1) (As := [.int x]) (rest := []) (fun w => w) hxR hbR hmlR hts hown hK hA hl.1 isCtx.id hI (c7_init l E q kd a x (by first | omega | with_reducible assumption) (by first | omega | with_reducible assumption)) q563 q98 q561 q562 rfl (by decide +kernel) rfl (Nat.le_of_ble_eq_true rfl) (Nat.le_of_ble_eq_true rfl) ⟨Nat.le_of_ble_eq_true rfl, Nat.le_of_ble_eq_true rfl⟩ (Nat.le_of_ble_eq_true rfl) dX8_init_2 (fun u H locs hp hI hz => ?_)
  have hI : wI E AR sR H locs (manW E q kd x) := hI
  exact hret () _ _ _ _ _ _ dX8_init_5 hI (by first | rfl | trivial | assumption | simp_all) (Nat.le_of_ble_eq_true rfl) (Nat.le_of_ble_eq_true rfl)

theorem c9_init (l : Launch) (E : En) (q : Nat) (kd : Nat) (a : Int32) (x : Int32) (h1 : 1 ≤ kd) (h5 : kd ≤ 5) : CtV l E yX9_init cX9_init 2 2 0 0 [.ref q, .int x] (manW E q kd a) (fun (u : Unit) => True) (fun (u : Unit) => manW E q kd x) := by
  refine CtV.of (by decide +kernel) (Nat.le_of_ble_eq_true rfl) ?_
  intro pR eR sR mR aR bR tR cR AR ls QR hxR hbR hmlR hts hown hlk hnm hA hK hI hl hret
  have hl : lv_has ls 2 [(0, .ref q), (1, .int x)] := hl
  refine lv_aload_n hxR hbR dX9_init_0 rfl (lv_at hl 0 rfl) ?_
  refine lv_iload_n hxR hbR dX9_init_1 rfl (lv_at hl 1 rfl) ?_
  refine kIV (n := 1) (As := [.int x]) (rest := []) (fun w => w) hxR hbR hmlR hts hown hK hA hl.1 isCtx.id hI (c7_init l E q kd a x (by first | omega | with_reducible assumption) (by first | omega | with_reducible assumption)) q563 q98 q577 q562 rfl (by decide +kernel) rfl (Nat.le_of_ble_eq_true rfl) (Nat.le_of_ble_eq_true rfl) ⟨Nat.le_of_ble_eq_true rfl, Nat.le_of_ble_eq_true rfl⟩ (Nat.le_of_ble_eq_true rfl) dX9_init_2 (fun u H locs hp hI hz => ?_)
  have hI : wI E AR sR H locs (manW E q kd x) := hI
  exact hret () _ _ _ _ _ _ dX9_init_5 hI (by first | rfl | trivial | assumption | simp_all) (Nat.le_of_ble_eq_true rfl) (Nat.le_of_ble_eq_true rfl)

theorem c10_init (l : Launch) (E : En) (q : Nat) (kd : Nat) (a : Int32) (x : Int32) (h1 : 1 ≤ kd) (h5 : kd ≤ 5) : CtV l E yX10_init cX10_init 2 3 0 0 [.ref q, .int x] (manW E q kd a) (fun (u : Unit) => True) (fun (u : Unit) => manW E q kd x) := by
  refine CtV.of (by decide +kernel) (Nat.le_of_ble_eq_true rfl) ?_
  intro pR eR sR mR aR bR tR cR AR ls QR hxR hbR hmlR hts hown hlk hnm hA hK hI hl hret
  have hl : lv_has ls 2 [(0, .ref q), (1, .int x)] := hl
  refine lv_aload_n hxR hbR dX10_init_0 rfl (lv_at hl 0 rfl) ?_
  refine lv_iload_n hxR hbR dX10_init_1 rfl (lv_at hl 1 rfl) ?_
  refine kIV (n := 1) (As := [.int x]) (rest := []) (fun w => w) hxR hbR hmlR hts hown hK hA hl.1 isCtx.id hI (c8_init l E q kd a x (by first | omega | with_reducible assumption) (by first | omega | with_reducible assumption)) q560 q99 q585 q559 rfl (by decide +kernel) rfl (Nat.le_of_ble_eq_true rfl) (Nat.le_of_ble_eq_true rfl) ⟨Nat.le_of_ble_eq_true rfl, Nat.le_of_ble_eq_true rfl⟩ (Nat.le_of_ble_eq_true rfl) dX10_init_2 (fun u H locs hp hI hz => ?_)
  have hI : wI E AR sR H locs (manW E q kd x) := hI
  exact hret () _ _ _ _ _ _ dX10_init_5 hI (by first | rfl | trivial | assumption | simp_all) (Nat.le_of_ble_eq_true rfl) (Nat.le_of_ble_eq_true rfl)

theorem c11_init (l : Launch) (E : En) (q : Nat) (kd : Nat) (a : Int32) (x : Int32) (h1 : 1 ≤ kd) (h5 : kd ≤ 5) : CtV l E yX11_init cX11_init 2 3 0 0 [.ref q, .int x] (manW E q kd a) (fun (u : Unit) => True) (fun (u : Unit) => manW E q kd x) := by
  refine CtV.of (by decide +kernel) (Nat.le_of_ble_eq_true rfl) ?_
  intro pR eR sR mR aR bR tR cR AR ls QR hxR hbR hmlR hts hown hlk hnm hA hK hI hl hret
  have hl : lv_has ls 2 [(0, .ref q), (1, .int x)] := hl
  refine lv_aload_n hxR hbR dX11_init_0 rfl (lv_at hl 0 rfl) ?_
  refine lv_iload_n hxR hbR dX11_init_1 rfl (lv_at hl 1 rfl) ?_
  refine kIV (n := 1) (As := [.int x]) (rest := []) (fun w => w) hxR hbR hmlR hts hown hK hA hl.1 isCtx.id hI (c9_init l E q kd a x (by first | omega | with_reducible assumption) (by first | omega | with_reducible assumption)) q576 q100 q593 q575 rfl (by decide +kernel) rfl (Nat.le_of_ble_eq_true rfl) (Nat.le_of_ble_eq_true rfl) ⟨Nat.le_of_ble_eq_true rfl, Nat.le_of_ble_eq_true rfl⟩ (Nat.le_of_ble_eq_true rfl) dX11_init_2 (fun u H locs hp hI hz => ?_)
  have hI : wI E AR sR H locs (manW E q kd x) := hI
  exact hret () _ _ _ _ _ _ dX11_init_5 hI (by first | rfl | trivial | assumption | simp_all) (Nat.le_of_ble_eq_true rfl) (Nat.le_of_ble_eq_true rfl)

theorem c12_init (l : Launch) (E : En) (q : Nat) (kd : Nat) (a : Int32) (x : Int32) (h1 : 1 ≤ kd) (h5 : kd ≤ 5) : CtV l E yX12_init cX12_init 2 3 0 0 [.ref q, .int x] (manW E q kd a) (fun (u : Unit) => True) (fun (u : Unit) => manW E q kd x) := by
  refine CtV.of (by decide +kernel) (Nat.le_of_ble_eq_true rfl) ?_
  intro pR eR sR mR aR bR tR cR AR ls QR hxR hbR hmlR hts hown hlk hnm hA hK hI hl hret
  have hl : lv_has ls 2 [(0, .ref q), (1, .int x)] := hl
  refine lv_aload_n hxR hbR dX12_init_0 rfl (lv_at hl 0 rfl) ?_
  refine lv_iload_n hxR hbR dX12_init_1 rfl (lv_at hl 1 rfl) ?_
  refine kIV (n := 1) (As := [.int x]) (rest := []) (fun w => w) hxR hbR hmlR hts hown hK hA hl.1 isCtx.id hI (c9_init l E q kd a x (by first | omega | with_reducible assumption) (by first | omega | with_reducible assumption)) q576 q100 q601 q575 rfl (by decide +kernel) rfl (Nat.le_of_ble_eq_true rfl) (Nat.le_of_ble_eq_true rfl) ⟨Nat.le_of_ble_eq_true rfl, Nat.le_of_ble_eq_true rfl⟩ (Nat.le_of_ble_eq_true rfl) dX12_init_2 (fun u H locs hp hI hz => ?_)
  have hI : wI E AR sR H locs (manW E q kd x) := hI
  exact hret () _ _ _ _ _ _ dX12_init_5 hI (by first | rfl | trivial | assumption | simp_all) (Nat.le_of_ble_eq_true rfl) (Nat.le_of_ble_eq_true rfl)

theorem c8_kind (l : Launch) (E : En) (q : Nat) (a : Int32)   : CtI l E yX8_kind cX8_kind 1 .int 0 0 0 [.ref q] (manW E q 1 a) (fun (r : Int32) (u : Unit) => r = 1) (fun (u : Unit) => manW E q 1 a) := by
  refine CtI.of (by decide +kernel) (Nat.le_of_ble_eq_true rfl) ?_
  intro pR eR sR mR aR bR tR cR AR ls QR hxR hbR hmlR hts hown hlk hnm hA hK hI hl hret
  have hl : lv_has ls 1 [(0, .ref q)] := hl
  refine lv_iconst (v := 1) hxR hbR dX8_kind_0 (by decide) ?_
  exact hret () 1 _ _ _ _ _ _ dX8_kind_1 hI (by first | rfl | trivial | assumption | simp_all) (Nat.le_of_ble_eq_true rfl) (Nat.le_of_ble_eq_true rfl) rfl

theorem c9_kind (l : Launch) (E : En) (q : Nat) (a : Int32)   : CtI l E yX9_kind cX9_kind 1 .int 0 0 0 [.ref q] (manW E q 2 a) (fun (r : Int32) (u : Unit) => r = 2) (fun (u : Unit) => manW E q 2 a) := by
  refine CtI.of (by decide +kernel) (Nat.le_of_ble_eq_true rfl) ?_
  intro pR eR sR mR aR bR tR cR AR ls QR hxR hbR hmlR hts hown hlk hnm hA hK hI hl hret
  have hl : lv_has ls 1 [(0, .ref q)] := hl
  refine lv_iconst (v := 2) hxR hbR dX9_kind_0 (by decide) ?_
  exact hret () 2 _ _ _ _ _ _ dX9_kind_1 hI (by first | rfl | trivial | assumption | simp_all) (Nat.le_of_ble_eq_true rfl) (Nat.le_of_ble_eq_true rfl) rfl

theorem c10_kind (l : Launch) (E : En) (q : Nat) (a : Int32)   : CtI l E yX10_kind cX10_kind 1 .int 0 0 0 [.ref q] (manW E q 3 a) (fun (r : Int32) (u : Unit) => r = 3) (fun (u : Unit) => manW E q 3 a) := by
  refine CtI.of (by decide +kernel) (Nat.le_of_ble_eq_true rfl) ?_
  intro pR eR sR mR aR bR tR cR AR ls QR hxR hbR hmlR hts hown hlk hnm hA hK hI hl hret
  have hl : lv_has ls 1 [(0, .ref q)] := hl
  refine lv_iconst (v := 3) hxR hbR dX10_kind_0 (by decide) ?_
  exact hret () 3 _ _ _ _ _ _ dX10_kind_1 hI (by first | rfl | trivial | assumption | simp_all) (Nat.le_of_ble_eq_true rfl) (Nat.le_of_ble_eq_true rfl) rfl

theorem c11_kind (l : Launch) (E : En) (q : Nat) (a : Int32)   : CtI l E yX11_kind cX11_kind 1 .int 0 0 0 [.ref q] (manW E q 4 a) (fun (r : Int32) (u : Unit) => r = 4) (fun (u : Unit) => manW E q 4 a) := by
  refine CtI.of (by decide +kernel) (Nat.le_of_ble_eq_true rfl) ?_
  intro pR eR sR mR aR bR tR cR AR ls QR hxR hbR hmlR hts hown hlk hnm hA hK hI hl hret
  have hl : lv_has ls 1 [(0, .ref q)] := hl
  refine lv_iconst (v := 4) hxR hbR dX11_kind_0 (by decide) ?_
  exact hret () 4 _ _ _ _ _ _ dX11_kind_1 hI (by first | rfl | trivial | assumption | simp_all) (Nat.le_of_ble_eq_true rfl) (Nat.le_of_ble_eq_true rfl) rfl

theorem c12_kind (l : Launch) (E : En) (q : Nat) (a : Int32)   : CtI l E yX12_kind cX12_kind 1 .int 0 0 0 [.ref q] (manW E q 5 a) (fun (r : Int32) (u : Unit) => r = 5) (fun (u : Unit) => manW E q 5 a) := by
  refine CtI.of (by decide +kernel) (Nat.le_of_ble_eq_true rfl) ?_
  intro pR eR sR mR aR bR tR cR AR ls QR hxR hbR hmlR hts hown hlk hnm hA hK hI hl hret
  have hl : lv_has ls 1 [(0, .ref q)] := hl
  refine lv_iconst (v := 5) hxR hbR dX12_kind_0 (by decide) ?_
  exact hret () 5 _ _ _ _ _ _ dX12_kind_1 hI (by first | rfl | trivial | assumption | simp_all) (Nat.le_of_ble_eq_true rfl) (Nat.le_of_ble_eq_true rfl) rfl

theorem c9_worth (l : Launch) (E : En) (q : Nat) (kd : Nat) (a : Int32) (adg : Nat → Nat) (ivg : Nat → Int32) (grg : Nat → Int32) (pag : Nat → Int32) (mog : Nat → Int32) (sgg : Nat → Int32) (adn : Nat → Nat) (ivn : Nat → Int32) (hrn : Nat → Int32) (csn : Nat → Int32) (K : Nat → Nat → Int32) (n st Z : Nat) (hn : ivn 3 = nI n) (hn7 : n ≤ 7) (hZ : Z < 2 ^ 31) : CtI l E yX9_worth cX9_worth 3 .int 2 0 0 [.ref q, .ref (adg 8), .int (nI Z)] (manW E q kd a ++ (gW E adg ivg grg pag mog sgg (some (adn 10)) ++ (tW E adn ivn hrn csn (sK K)))) (fun (r : Int32) (u : Unit) => r = sumS csn Z n) (fun (u : Unit) => manW E q kd a ++ (gW E adg ivg grg pag mog sgg (some (adn 10)) ++ (tW E adn ivn hrn csn (sK K)))) := by
  refine CtI.of (by decide +kernel) (Nat.le_of_ble_eq_true rfl) ?_
  intro pR eR sR mR aR bR tR cR AR ls QR hxR hbR hmlR hts hown hlk hnm hA hK hI hl hret
  have hl : lv_has ls 3 [(0, .ref q), (1, .ref (adg 8)), (2, .int (nI Z))] := hl
  refine lv_aload_n hxR hbR dX9_worth_0 rfl (lv_at hl 1 rfl) ?_
  refine lv_iload_n hxR hbR dX9_worth_1 rfl (lv_at hl 2 rfl) ?_
  refine kVI (n := 1) (As := [.int (nI Z)]) (rest := []) (fun w => (manW E q kd a) ++ w) hxR hbR hmlR hts hown hK hA hl.1 (isCtx.pre _) hI (c2_costOf l E adg ivg grg pag mog sgg adn ivn hrn csn K n Z hn (by first | omega | with_reducible assumption) (by first | omega | with_reducible assumption)) (lw_V q714 q715 q716 q83 q717) ⟨rfl, by decide +kernel⟩ 0 2 rfl rfl (he_l gW_o) rfl (Nat.le_of_ble_eq_true rfl) (Nat.le_of_ble_eq_true rfl) ⟨Nat.le_of_ble_eq_true rfl, Nat.le_of_ble_eq_true rfl⟩ (Nat.le_of_ble_eq_true rfl) dX9_worth_2 (fun r_2 u H locs hp hI hz => ?_)
  have hI : wI E AR sR H locs (manW E q kd a ++ (gW E adg ivg grg pag mog sgg (some (adn 10)) ++ (tW E adn ivn hrn csn (sK K)))) := hI
  have hp : r_2 = sumS csn Z n := hp
  have hr_2 := hp
  subst hr_2
  exact hret () (sumS csn Z n) _ _ _ _ _ _ dX9_worth_5 hI (by first | rfl | trivial | assumption | simp_all) (Nat.le_of_ble_eq_true rfl) (Nat.le_of_ble_eq_true rfl) rfl

theorem c11_worth (l : Launch) (E : En) (q : Nat) (kd : Nat) (a : Int32) (adg : Nat → Nat) (ivg : Nat → Int32) (grg : Nat → Int32) (pag : Nat → Int32) (mog : Nat → Int32) (sgg : Nat → Int32) (adn : Nat → Nat) (ivn : Nat → Int32) (hrn : Nat → Int32) (csn : Nat → Int32) (K : Nat → Nat → Int32) (n st Z : Nat) (hn : ivn 3 = nI n) (hn7 : n ≤ 7) (hsg : (∀ p, p < n → sgg p = nI (strS K p n))) (hZ : Z < 2 ^ 31) : CtI l E yX11_worth cX11_worth 3 .int 2 0 0 [.ref q, .ref (adg 8), .int (nI Z)] (manW E q kd a ++ (gW E adg ivg grg pag mog sgg (some (adn 10)) ++ (tW E adn ivn hrn csn (sK K)))) (fun (r : Int32) (u : Unit) => r = -sumS (msS K n) Z n) (fun (u : Unit) => manW E q kd a ++ (gW E adg ivg grg pag mog sgg (some (adn 10)) ++ (tW E adn ivn hrn csn (sK K)))) := by
  refine CtI.of (by decide +kernel) (Nat.le_of_ble_eq_true rfl) ?_
  intro pR eR sR mR aR bR tR cR AR ls QR hxR hbR hmlR hts hown hlk hnm hA hK hI hl hret
  have hl : lv_has ls 3 [(0, .ref q), (1, .ref (adg 8)), (2, .int (nI Z))] := hl
  refine lv_aload_n hxR hbR dX11_worth_0 rfl (lv_at hl 1 rfl) ?_
  refine lv_iload_n hxR hbR dX11_worth_1 rfl (lv_at hl 2 rfl) ?_
  refine kVI (n := 1) (As := [.int (nI Z)]) (rest := []) (fun w => (manW E q kd a) ++ w) hxR hbR hmlR hts hown hK hA hl.1 (isCtx.pre _) hI (c2_strangersOf l E adg ivg grg pag mog sgg adn ivn hrn csn K n Z hn (by first | omega | with_reducible assumption) (by first | omega | with_reducible assumption) (by first | omega | with_reducible assumption)) (lw_V q709 q710 q711 q83 q712) ⟨rfl, by decide +kernel⟩ 0 2 rfl rfl (he_l gW_o) rfl (Nat.le_of_ble_eq_true rfl) (Nat.le_of_ble_eq_true rfl) ⟨Nat.le_of_ble_eq_true rfl, Nat.le_of_ble_eq_true rfl⟩ (Nat.le_of_ble_eq_true rfl) dX11_worth_2 (fun r_2 u H locs hp hI hz => ?_)
  have hI : wI E AR sR H locs (manW E q kd a ++ (gW E adg ivg grg pag mog sgg (some (adn 10)) ++ (tW E adn ivn hrn csn (sK K)))) := hI
  have hp : r_2 = sumS (msS K n) Z n := hp
  have hr_2 := hp
  subst hr_2
  refine lv_ineg hxR hbR dX11_worth_5 ?_
  exact hret () (-(sumS (msS K n) Z n)) _ _ _ _ _ _ dX11_worth_6 hI (by first | rfl | trivial | assumption | simp_all) (Nat.le_of_ble_eq_true rfl) (Nat.le_of_ble_eq_true rfl) rfl
