theorem hshF_congr {f g : Nat → Int32} : ∀ n, (∀ j, j < n → f j = g j) → hshF f n = hshF g n
  | 0, _ => rfl
  | n + 1, h => by rw [hshF, hshF, hshF_congr n (fun j hj => h j (by omega)), h n (by omega)]
theorem hsh_c : ∀ i, i < 8 → hshF (fun j => (sByt.getD i []).getD j 0) (sLen.getD i 0) = sHash.getD i 0 := by decide +kernel
theorem hsh_K {f : Nat → Int32} {n i : Nat} (hi : i < 8) (h : strEq f n i) : hshF f n = sHash.getD i 0 := by
  rw [hshF_congr n h.2, h.1]
  exact hsh_c i hi
theorem sh_inj : ∀ i, i < 8 → ∀ j, j < 8 → sHash.getD i 0 = sHash.getD j 0 → i = j := by decide +kernel
section STW
variable {b : Nat → Nat} {sz n st mm a i j : Nat} {hour cost : Nat → Int32} {K : Nat → Nat → Int32}
theorem isW_str (h : isW b sz a i = true) : strEq (fun j => nI (b (fr b sz a + j))) (nx b sz a - fr b sz a) i := by
  obtain ⟨-, z2, z3⟩ := of_decide_eq_true h
  exact ⟨z2, fun j hj => z3 j (by omega)⟩
theorem isW_u (hi : i < 8) (hj : j < 8) (h : isW b sz a i = true) (h2 : isW b sz a j = true) : i = j := sh_inj i hi j hj ((hsh_K hi (isW_str h)).symm.trans (hsh_K hj (isW_str h2)))
theorem isW_x (hi : i < 8) (hj : j < 8) (hij : i ≠ j) (h : isW b sz a i = true) : ¬ isW b sz a j = true := fun h2 => hij (isW_u hi hj h h2)
theorem isW_ln (h : isW b sz a i = true) : nx b sz a - fr b sz a = sLen.getD i 0 := (of_decide_eq_true h).2.1
theorem stm_none (h : ∀ i, 1 ≤ i → i ≤ 6 → ¬ isW b sz a i = true) : stm b sz n st mm hour cost K a = .error (fr b sz a) := by
  unfold stm
  rw [if_neg (fun z => h 1 (by decide) (by decide) z.1), if_neg (h 2 (by decide) (by decide)), if_neg (h 3 (by decide) (by decide)), if_neg (h 4 (by decide) (by decide)), if_neg (h 5 (by decide) (by decide)), if_neg (h 6 (by decide) (by decide))]
theorem stm_w1 (hn : n ≤ 7) (h : isW b sz a 1 = true) : stm b sz n st mm hour cost K a = (match perE b sz n a with
  | .error f => .error f
  | .ok (h, c, p) => .ok ((n + 1, st, mm, va_up hour n (nI h), va_up cost n (nI c), newK K n n), p)) := by
  by_cases h7 : n = 7
  · rw [perE_7 h7]
    unfold stm
    rw [if_neg (fun z => by omega), if_neg (isW_x (by decide) (by decide) (by decide) h), if_neg (isW_x (by decide) (by decide) (by decide) h), if_neg (isW_x (by decide) (by decide) (by decide) h), if_neg (isW_x (by decide) (by decide) (by decide) h), if_neg (isW_x (by decide) (by decide) (by decide) h)]
  · unfold stm perE
    rw [if_pos ⟨h, by omega⟩, if_neg h7]
    cases numE b sz (nx b sz a) 0 23 with
    | error f => rfl
    | ok u =>
      dsimp only
      cases numE b sz u.2 0 9 with
      | error f => rfl
      | ok v => rfl
theorem stm_w2 (h : isW b sz a 2 = true) : stm b sz n st mm hour cost K a = (match knoE b sz n K a with
  | .error f => .error f
  | .ok (K', p) => .ok ((n, st, mm, hour, cost, K'), p)) := by
  unfold stm
  rw [if_neg (fun z => isW_x (by decide) (by decide) (by decide) h z.1), if_pos h]
  cases knoE b sz n K a with
  | error f => rfl
  | ok u => rfl
theorem stm_w3 (h : isW b sz a 3 = true) : stm b sz n st mm hour cost K a = (match twoE b sz n a with
  | .error f => .error f
  | .ok (x, y, p) => .ok ((n, st, mm, hour, cost, knF K x y (-1)), p)) := by
  unfold stm
  rw [if_neg (fun z => isW_x (by decide) (by decide) (by decide) h z.1), if_neg (isW_x (by decide) (by decide) (by decide) h), if_pos h]
  cases twoE b sz n a with
  | error f => rfl
  | ok u => rfl
theorem stm_w4 (h : isW b sz a 4 = true) : stm b sz n st mm hour cost K a = (match numE b sz (nx b sz a) 2 4 with
  | .error f => .error f
  | .ok (x, p) => .ok ((n, x, mm, hour, cost, K), p)) := by
  unfold stm
  rw [if_neg (fun z => isW_x (by decide) (by decide) (by decide) h z.1), if_neg (isW_x (by decide) (by decide) (by decide) h), if_neg (isW_x (by decide) (by decide) (by decide) h), if_pos h]
  cases numE b sz (nx b sz a) 2 4 with
  | error f => rfl
  | ok u => rfl
theorem stm_w5 (h : isW b sz a 5 = true) : stm b sz n st mm hour cost K a = (match numE b sz (nx b sz a) 0 99 with
  | .error f => .error f
  | .ok (x, p) => .ok ((n, st, x, hour, cost, K), p)) := by
  unfold stm
  rw [if_neg (fun z => isW_x (by decide) (by decide) (by decide) h z.1), if_neg (isW_x (by decide) (by decide) (by decide) h), if_neg (isW_x (by decide) (by decide) (by decide) h), if_neg (isW_x (by decide) (by decide) (by decide) h), if_pos h]
  cases numE b sz (nx b sz a) 0 99 with
  | error f => rfl
  | ok u => rfl
theorem stm_w6 (h : isW b sz a 6 = true) : stm b sz n st mm hour cost K a = (match metE b sz n a with
  | .error f => .error f
  | .ok (S, p) => .ok ((n, st, mm, hour, cost, meetK K S n), p)) := by
  unfold stm
  rw [if_neg (fun z => isW_x (by decide) (by decide) (by decide) h z.1), if_neg (isW_x (by decide) (by decide) (by decide) h), if_neg (isW_x (by decide) (by decide) (by decide) h), if_neg (isW_x (by decide) (by decide) (by decide) h), if_neg (isW_x (by decide) (by decide) (by decide) h), if_pos h]
  cases metE b sz n a with
  | error f => rfl
  | ok u => rfl
/-! what a statement costs at the least -/
theorem perE_p {u : Nat × Nat × Nat} (h : perE b sz n a = .ok u) : u.2.2 = nx b sz (nx b sz (nx b sz a)) := by
  unfold perE at h
  split at h
  · cases h
  · split at h
    · cases h
    · rename_i h1 p1 e1
      obtain ⟨-, -, rfl, -, -⟩ := numE_ok e1
      split at h
      · cases h
      · rename_i c1 p2 e2
        obtain ⟨-, -, rfl, -, -⟩ := numE_ok e2
        cases h
        rfl
theorem knoE_p {u : (Nat → Nat → Int32) × Nat} (h : knoE b sz n K a = .ok u) : (isW b sz (nx b sz (nx b sz (nx b sz a))) 7 = false ∧ u.2 = nx b sz (nx b sz (nx b sz a))) ∨ (isW b sz (nx b sz (nx b sz (nx b sz a))) 7 = true ∧ u.2 = nx b sz (nx b sz (nx b sz (nx b sz (nx b sz a))))) := by
  unfold knoE at h
  split at h
  · cases h
  · rename_i x y p e1
    obtain ⟨-, -, -, q, rfl, rfl⟩ := twoE_ok e1
    split at h
    · rename_i hw
      split at h
      · cases h
      · rename_i v p2 e2
        obtain ⟨-, -, rfl, -, -⟩ := numE_ok e2
        cases h
        exact Or.inr ⟨hw, rfl⟩
    · rename_i hw
      cases h
      exact Or.inl ⟨by cases e9 : isW b sz (nx b sz (nx b sz (nx b sz a))) 7; rfl; exact absurd e9 hw, rfl⟩
theorem co_w1 (hn : n ≤ 7) (h : isW b sz a 1 = true) {v : TW} {q : Nat} (e : stm b sz n st mm hour cost K a = .ok (v, q)) : q = nx b sz (nx b sz (nx b sz a)) := by
  rw [stm_w1 hn h] at e
  split at e
  · cases e
  · rename_i x y z e1
    cases e
    exact perE_p e1
theorem co_w2 (h : isW b sz a 2 = true) {v : TW} {q : Nat} (e : stm b sz n st mm hour cost K a = .ok (v, q)) : (isW b sz (nx b sz (nx b sz (nx b sz a))) 7 = false ∧ q = nx b sz (nx b sz (nx b sz a))) ∨ (isW b sz (nx b sz (nx b sz (nx b sz a))) 7 = true ∧ q = nx b sz (nx b sz (nx b sz (nx b sz (nx b sz a))))) := by
  rw [stm_w2 h] at e
  split at e
  · cases e
  · rename_i x y e1
    cases e
    exact knoE_p e1
theorem co_w3 (h : isW b sz a 3 = true) {v : TW} {q : Nat} (e : stm b sz n st mm hour cost K a = .ok (v, q)) : q = nx b sz (nx b sz (nx b sz a)) := by
  rw [stm_w3 h] at e
  split at e
  · cases e
  · rename_i x y p e1
    cases e
    obtain ⟨-, -, -, q9, rfl, rfl⟩ := twoE_ok e1
    rfl
theorem co_w4 (h : isW b sz a 4 = true) {v : TW} {q : Nat} (e : stm b sz n st mm hour cost K a = .ok (v, q)) : q = nx b sz (nx b sz a) := by
  rw [stm_w4 h] at e
  split at e
  · cases e
  · rename_i x p e1
    cases e
    exact (numE_ok e1).2.2.1
theorem co_w5 (h : isW b sz a 5 = true) {v : TW} {q : Nat} (e : stm b sz n st mm hour cost K a = .ok (v, q)) : q = nx b sz (nx b sz a) := by
  rw [stm_w5 h] at e
  split at e
  · cases e
  · rename_i x p e1
    cases e
    exact (numE_ok e1).2.2.1
theorem co_w6 (h : isW b sz a 6 = true) : coE b sz a (metE b sz n a) = coE b sz a (stm b sz n st mm hour cost K a) := by
  rw [stm_w6 h]
  cases metE b sz n a with
  | error f => rfl
  | ok u => rfl
theorem lk6 {x : Int32} (h0 : ¬ x = -1881997444) (h1 : ¬ x = -1077756671) (h2 : ¬ x = -991716523) (h3 : ¬ x = 107996) (h4 : ¬ x = 3296907) (h5 : ¬ x = 109310734) : Op.lookupswitch.offset [((-1881997444 : Int), (85 : Int)), (-1077756671, 113), (-991716523, 57), (107996, 127), (3296907, 71), (109310734, 99)] 138 x.toInt = 138 := by
  have a0 : ¬ (-1881997444 : Int) = x.toInt := fun e => h0 (Int32.toInt_inj.mp (e.symm.trans (by decide)))
  have a1 : ¬ (-1077756671 : Int) = x.toInt := fun e => h1 (Int32.toInt_inj.mp (e.symm.trans (by decide)))
  have a2 : ¬ (-991716523 : Int) = x.toInt := fun e => h2 (Int32.toInt_inj.mp (e.symm.trans (by decide)))
  have a3 : ¬ (107996 : Int) = x.toInt := fun e => h3 (Int32.toInt_inj.mp (e.symm.trans (by decide)))
  have a4 : ¬ (3296907 : Int) = x.toInt := fun e => h4 (Int32.toInt_inj.mp (e.symm.trans (by decide)))
  have a5 : ¬ (109310734 : Int) = x.toInt := fun e => h5 (Int32.toInt_inj.mp (e.symm.trans (by decide)))
  simp [Op.lookupswitch.offset, a0, a1, a2, a3, a4, a5]
end STW

set_option maxHeartbeats 8000000 in
theorem c13_item_0 (l : Launch) (E : En) (o : Nat) (tq : Nat) (adn : Nat → Nat) (ivn : Nat → Int32) (hrn : Nat → Int32) (csn : Nat → Int32) (fT : Nat → Int32)  (b : Nat → Nat) (sz a : Nat)(wz : WD) (K : Nat → Nat → Int32) (n st mm : Nat)  (hlt : l.stackTraces = false) (htp : tpOk fT b sz) (hsz : sz ≤ 250) (ha : a ≤ sz) (hw : wOk b sz a wz) (hn : ivn 3 = nI n) (hst : ivn 4 = nI st) (hmm : ivn 5 = nI mm) (hn7 : n ≤ 7) (hN : ∀ j, 1 ≤ j → j ≤ 6 → ¬ isW b sz a j = true) : XtV l E yX13_item (ws_ yX13_item cX13_item 5 none) 11 (4 * coE b sz a (stm b sz n st mm hrn csn K a)) (1024 * coE b sz a (stm b sz n st mm hrn csn K a)) [.ref o] (rdO E o tq sz (adn 10) (atC b sz a) (fr b sz a) (wdR E b sz a wz) (nuC b sz a) ++ (tW E adn ivn hrn csn (sK K) ++ (tpW E tq fT ++ (wdW E b sz a wz)))) (fun (u : Nat × Nat × Nat × (Nat → Int32) × (Nat → Int32) × (Nat → Nat → Int32) × Nat × WD) => (stm b sz n st mm hrn csn K a) = .ok ((u.1, u.2.1, u.2.2.1, u.2.2.2.1, u.2.2.2.2.1, u.2.2.2.2.2.1), u.2.2.2.2.2.2.1) ∧ wOk b sz u.2.2.2.2.2.2.1 u.2.2.2.2.2.2.2) (fun (u : Nat × Nat × Nat × (Nat → Int32) × (Nat → Int32) × (Nat → Nat → Int32) × Nat × WD) => rdO E o tq sz (adn 10) (atC b sz u.2.2.2.2.2.2.1) (fr b sz u.2.2.2.2.2.2.1) (wdR E b sz u.2.2.2.2.2.2.1 u.2.2.2.2.2.2.2) (nuC b sz u.2.2.2.2.2.2.1) ++ (tW E adn (va_up (va_up (va_up ivn 3 (nI u.1)) 4 (nI u.2.1)) 5 (nI u.2.2.1)) u.2.2.2.1 u.2.2.2.2.1 (sK u.2.2.2.2.2.1) ++ (tpW E tq fT ++ (wdW E b sz u.2.2.2.2.2.2.1 u.2.2.2.2.2.2.2)))) (fun (En : String) (u : Nat) => En = "ThreeStrangers$Fault" ∧ (stm b sz n st mm hrn csn K a) = .error u) (fun (u : Nat) (q : Nat) => tpW E tq fT ++ ([(q, .inr (13, [.null, .null, .null, .null, .null, .int 0, .int (nI u)]))])) := by
  have hna := nx_le (b := b) ha
  have hna2 := nx_le (b := b) hna
  have hna3 := nx_le (b := b) hna2
  have hg1 := nx2_le (b := b) ha
  have hg2 := nx2_le (b := b) hna
  have hna4 := nx_le (b := b) hna3
  have hna5 := nx_le (b := b) hna4
  have hna6 := nx_le (b := b) hna5
  have hg3 := nx2_le (b := b) hna2
  have hg4 := nx2_le (b := b) hna3
  have hg5 := nx2_le (b := b) hna4
  have hfa := fr_ge (b := b) (sz := sz) (a := a)
  have hfn := nx_ge (b := b) (sz := sz) (a := a)
  refine XtV.of (by decide +kernel) (Nat.le_of_ble_eq_true rfl) ?_
  intro pR eR sR mR aR bR tR cR AR ls QR hxR hbR hmlR hts hown hlk hnm hA hK hI hl hret hthr
  have hl : lv_has ls 5 [(0, .ref o)] := hl
  have hI := wI_w (ws' := rdO E o tq sz (adn 10) (atC b sz a) (fr b sz a) (wdR E b sz a wz) (nuC b sz a) ++ (tW E adn (va_up ivn 3 (nI n)) hrn csn (sK K) ++ (tpW E tq fT ++ (wdW E b sz a wz)))) (by rw [va_up_id (f := ivn) (k := 3) (v := nI n) hn]) hI
  have hI := wI_w (ws' := rdO E o tq sz (adn 10) (atC b sz a) (fr b sz a) (wdR E b sz a wz) (nuC b sz a) ++ (tW E adn (va_up (va_up ivn 3 (nI n)) 4 (nI st)) hrn csn (sK K) ++ (tpW E tq fT ++ (wdW E b sz a wz)))) (by rw [va_up_id (f := (va_up ivn 3 (nI n))) (k := 4) (v := nI st) (up_n (by decide) hst)]) hI
  have hI := wI_w (ws' := rdO E o tq sz (adn 10) (atC b sz a) (fr b sz a) (wdR E b sz a wz) (nuC b sz a) ++ (tW E adn (va_up (va_up (va_up ivn 3 (nI n)) 4 (nI st)) 5 (nI mm)) hrn csn (sK K) ++ (tpW E tq fT ++ (wdW E b sz a wz)))) (by rw [va_up_id (f := (va_up (va_up ivn 3 (nI n)) 4 (nI st))) (k := 5) (v := nI mm) (up_n (by decide) (up_n (by decide) hmm))]) hI
  refine lv_aload_n hxR hbR dX13_item_0 rfl (lv_at hl 0 rfl) ?_
  refine r_get hxR hbR hts hown hK hI okX13 (ci := 12) rfl 0 (he_l rfl) 5 (by decide) q810 rfl (v := va_rf (wdR E b sz a wz)) rfl dX13_item_1 ?_
  rcases kd_13 b sz a with hk_4 | hk_4 | hk_4
  · skip
    rw [wdR_0 hk_4]
    have hI := wI_w (ws' := rdO E o tq sz (adn 10) (atC b sz a) (fr b sz a) none (nuC b sz a) ++ (tW E adn (va_up (va_up (va_up ivn 3 (nI n)) 4 (nI st)) 5 (nI mm)) hrn csn (sK K) ++ (tpW E tq fT ++ (([] : va_W))))) (by rw [wdR_0 hk_4, wdW_n hk_4.1]) hI
    refine lv_ifnonnullN hxR hbR dX13_item_4 ?_
    have hres : (stm b sz n st mm hrn csn K a) = .error (fr b sz a) := stm_none hN
    have hco9 := coE_er (b := b) (sz := sz) (a := a) hres
    refine lv_aload_n hxR hbR dX13_item_7 rfl (lv_at hl 0 rfl) ?_
    have hI : wI E AR sR _ _ (tW E adn (va_up (va_up (va_up ivn 3 (nI n)) 4 (nI st)) 5 (nI mm)) hrn csn (sK K) ++ (tpW E tq fT ++ (([] : va_W) ++ (rdO E o tq sz (adn 10) (atC b sz a) (fr b sz a) none (nuC b sz a))))) := wI_pick ([rdO E o tq sz (adn 10) (atC b sz a) (fr b sz a) none (nuC b sz a), tW E adn (va_up (va_up (va_up ivn 3 (nI n)) 4 (nI st)) 5 (nI mm)) hrn csn (sK K), tpW E tq fT, ([] : va_W)]) [1, 2, 3, 0] 4 rfl (by decide) hI
    have hI := wI_w app3 hI
    refine kVR (n := 0) (As := []) (rest := []) (fun w => (tW E adn (va_up (va_up (va_up ivn 3 (nI n)) 4 (nI st)) 5 (nI mm)) hrn csn (sK K) ++ (tpW E tq fT ++ (([] : va_W)))) ++ w) hxR hbR hmlR hts hown hK hA hl.1 (isCtx.pre _) hI (c13_wrong l E o tq (adn 10) (atC b sz a) (fr b sz a) none (nuC b sz a) sz ) (lw_V q1030 q1032 qs11 q107 q1033) ⟨rfl, by decide +kernel⟩ 0 12 rfl rfl rfl rfl (Nat.le_of_ble_eq_true rfl) (Nat.le_of_ble_eq_true rfl) ⟨by omega, by omega⟩ (Nat.le_of_ble_eq_true rfl) dX13_item_8 (fun u r_8 H locs hp hI hz => ?_)
    have hI := wI_w app3.symm hI
    have hI : wI E AR sR H locs (tW E adn (va_up (va_up (va_up ivn 3 (nI n)) 4 (nI st)) 5 (nI mm)) hrn csn (sK K) ++ (tpW E tq fT ++ (([] : va_W) ++ (rdO E o tq sz (adn 10) (atC b sz a) (fr b sz a) none (nuC b sz a) ++ ([(r_8, .inr (13, [.null, .null, .null, .null, .null, .int 0, .int (nI (fr b sz a))]))]))))) := hI
    have hI : wI E AR sR _ _ (tW E adn (va_up (va_up (va_up ivn 3 (nI n)) 4 (nI st)) 5 (nI mm)) hrn csn (sK K) ++ (([] : va_W) ++ (rdO E o tq sz (adn 10) (atC b sz a) (fr b sz a) none (nuC b sz a) ++ (tpW E tq fT ++ ([(r_8, .inr (13, [.null, .null, .null, .null, .null, .int 0, .int (nI (fr b sz a))]))]))))) := wI_pick ([tW E adn (va_up (va_up (va_up ivn 3 (nI n)) 4 (nI st)) 5 (nI mm)) hrn csn (sK K), tpW E tq fT, ([] : va_W), rdO E o tq sz (adn 10) (atC b sz a) (fr b sz a) none (nuC b sz a), [(r_8, .inr (13, [.null, .null, .null, .null, .null, .int 0, .int (nI (fr b sz a))]))]]) [0, 2, 3, 1, 4] 5 rfl (by decide) hI
    have hI := wI_dropL hI
    have hI := wI_dropL hI
    have hI := wI_dropL hI
    have hI : wI E AR sR _ _ (tpW E tq fT ++ ([(r_8, .inr (13, [.null, .null, .null, .null, .null, .int 0, .int (nI (fr b sz a))]))])) := hI
    refine vx_athrow hxR hbR dX13_item_11 ?_
    obtain ⟨ce_11, hq1, hq2, hq3⟩ := wI_thrown hK hI (ci := 13) (nm := "ThreeStrangers$Fault") rfl rfl (q0 := (1 + 0)) (he_r (Nat.le_of_ble_eq_true rfl) (Nat.le_of_ble_eq_true rfl) rfl)
    exact hthr (fr b sz a) _ _ _ _ _ _ _ _ _ _ hq1 hq2 hq3 hI ⟨rfl, hres⟩ (by omega) (by omega)
  · skip
    rw [wdR_3 hk_4]
    have hI := wI_w (ws' := rdO E o tq sz (adn 10) (atC b sz a) (fr b sz a) (some (E.1.2.1 0)) (nuC b sz a) ++ (tW E adn (va_up (va_up (va_up ivn 3 (nI n)) 4 (nI st)) 5 (nI mm)) hrn csn (sK K) ++ (tpW E tq fT ++ (([] : va_W))))) (by rw [wdR_3 hk_4, wdW_k hk_4 (by decide)]) hI
    refine lv_ifnonnull (tgt := 12) hxR hbR dX13_item_4 (by decide) ?_
    refine lv_aload_n hxR hbR dX13_item_12 rfl (lv_at hl 0 rfl) ?_
    refine r_get hxR hbR hts hown hK hI okX13 (ci := 12) rfl 0 (he_l rfl) 5 (by decide) q810 rfl (v := .ref (E.1.2.1 0)) rfl dX13_item_13 ?_
    refine lv_astore_n (lv' := [(1, .ref (E.1.2.1 0)), (0, .ref o)]) hxR hbR dX13_item_16 rfl hl (by decide) rfl (fun ls hl => ?_)
    refine lv_iconst (v := (-1)) hxR hbR dX13_item_17 (by decide) ?_
    refine lv_istore_n (lv' := [(2, .int (-1)), (1, .ref (E.1.2.1 0)), (0, .ref o)]) hxR hbR dX13_item_18 rfl hl (by decide) rfl (fun ls hl => ?_)
    refine lv_aload_n hxR hbR dX13_item_19 rfl (lv_at hl 1 rfl) ?_
    refine kVIc (n := 0) (As := []) (rest := []) (fun w => w ++ (rdO E o tq sz (adn 10) (atC b sz a) (fr b sz a) (some (E.1.2.1 0)) (nuC b sz a) ++ (tW E adn (va_up (va_up (va_up ivn 3 (nI n)) 4 (nI st)) 5 (nI mm)) hrn csn (sK K) ++ (tpW E tq fT ++ (([] : va_W)))))) hxR hbR hmlR hts hown hK hA hl.1 (isCtx.suf _) hI 0 (by decide) (j4_hashCodeK l E 0 (by decide)) (lw_V q1053 q1054 q1055 q91 q1056) ⟨rfl, by decide +kernel⟩ rfl rfl (Nat.le_of_ble_eq_true rfl) (Nat.le_of_ble_eq_true rfl) ⟨by omega, by omega⟩ (Nat.le_of_ble_eq_true rfl) dX13_item_20 (fun r_20 u H locs hp hI hz => ?_)
    have hI : wI E AR sR _ _ (rdO E o tq sz (adn 10) (atC b sz a) (fr b sz a) (some (E.1.2.1 0)) (nuC b sz a) ++ (tW E adn (va_up (va_up (va_up ivn 3 (nI n)) 4 (nI st)) 5 (nI mm)) hrn csn (sK K) ++ (tpW E tq fT ++ (([] : va_W))))) := hI
    obtain rfl : r_20 = sHash.getD 0 0 := hp
    have hres : (stm b sz n st mm hrn csn K a) = .error (fr b sz a) := stm_none hN
    have hco9 := coE_er (b := b) (sz := sz) (a := a) hres
    refine lv_lookup (off := 138) (tgt := 161) hxR hbR dX13_item_23 (by decide) (by decide) (by decide) ?_
    refine lv_iload_n hxR hbR dX13_item_161 rfl (lv_at hl 0 rfl) ?_
    refine lv_tableOut (tgt := 330) hxR hbR dX13_item_162 (by decide) (by decide) ?_
    refine lv_aload_n hxR hbR dX13_item_330 rfl (lv_at hl 2 rfl) ?_
    have hI : wI E AR sR _ _ (tW E adn (va_up (va_up (va_up ivn 3 (nI n)) 4 (nI st)) 5 (nI mm)) hrn csn (sK K) ++ (tpW E tq fT ++ (([] : va_W) ++ (rdO E o tq sz (adn 10) (atC b sz a) (fr b sz a) (some (E.1.2.1 0)) (nuC b sz a))))) := wI_pick ([rdO E o tq sz (adn 10) (atC b sz a) (fr b sz a) (some (E.1.2.1 0)) (nuC b sz a), tW E adn (va_up (va_up (va_up ivn 3 (nI n)) 4 (nI st)) 5 (nI mm)) hrn csn (sK K), tpW E tq fT, ([] : va_W)]) [1, 2, 3, 0] 4 rfl (by decide) hI
    have hI := wI_w app3 hI
    refine kVR (n := 0) (As := []) (rest := []) (fun w => (tW E adn (va_up (va_up (va_up ivn 3 (nI n)) 4 (nI st)) 5 (nI mm)) hrn csn (sK K) ++ (tpW E tq fT ++ (([] : va_W)))) ++ w) hxR hbR hmlR hts hown hK hA hl.1 (isCtx.pre _) hI (c13_wrong l E o tq (adn 10) (atC b sz a) (fr b sz a) (some (E.1.2.1 0)) (nuC b sz a) sz ) (lw_V q1030 q1032 qs11 q107 q1033) ⟨rfl, by decide +kernel⟩ 0 12 rfl rfl rfl rfl (Nat.le_of_ble_eq_true rfl) (Nat.le_of_ble_eq_true rfl) ⟨by omega, by omega⟩ (Nat.le_of_ble_eq_true rfl) dX13_item_331 (fun u r_331 H locs hp hI hz => ?_)
    have hI := wI_w app3.symm hI
    have hI : wI E AR sR H locs (tW E adn (va_up (va_up (va_up ivn 3 (nI n)) 4 (nI st)) 5 (nI mm)) hrn csn (sK K) ++ (tpW E tq fT ++ (([] : va_W) ++ (rdO E o tq sz (adn 10) (atC b sz a) (fr b sz a) (some (E.1.2.1 0)) (nuC b sz a) ++ ([(r_331, .inr (13, [.null, .null, .null, .null, .null, .int 0, .int (nI (fr b sz a))]))]))))) := hI
    have hI : wI E AR sR _ _ (tW E adn (va_up (va_up (va_up ivn 3 (nI n)) 4 (nI st)) 5 (nI mm)) hrn csn (sK K) ++ (([] : va_W) ++ (rdO E o tq sz (adn 10) (atC b sz a) (fr b sz a) (some (E.1.2.1 0)) (nuC b sz a) ++ (tpW E tq fT ++ ([(r_331, .inr (13, [.null, .null, .null, .null, .null, .int 0, .int (nI (fr b sz a))]))]))))) := wI_pick ([tW E adn (va_up (va_up (va_up ivn 3 (nI n)) 4 (nI st)) 5 (nI mm)) hrn csn (sK K), tpW E tq fT, ([] : va_W), rdO E o tq sz (adn 10) (atC b sz a) (fr b sz a) (some (E.1.2.1 0)) (nuC b sz a), [(r_331, .inr (13, [.null, .null, .null, .null, .null, .int 0, .int (nI (fr b sz a))]))]]) [0, 2, 3, 1, 4] 5 rfl (by decide) hI
    have hI := wI_dropL hI
    have hI := wI_dropL hI
    have hI := wI_dropL hI
    have hI : wI E AR sR _ _ (tpW E tq fT ++ ([(r_331, .inr (13, [.null, .null, .null, .null, .null, .int 0, .int (nI (fr b sz a))]))])) := hI
    refine vx_athrow hxR hbR dX13_item_334 ?_
    obtain ⟨ce_334, hq1, hq2, hq3⟩ := wI_thrown hK hI (ci := 13) (nm := "ThreeStrangers$Fault") rfl rfl (q0 := (1 + 0)) (he_r (Nat.le_of_ble_eq_true rfl) (Nat.le_of_ble_eq_true rfl) rfl)
    exact hthr (fr b sz a) _ _ _ _ _ _ _ _ _ _ hq1 hq2 hq3 hI ⟨rfl, hres⟩ (by omega) (by omega)
  · skip
    rw [wdR_1 hk_4]
    have hI := wI_w (ws' := rdO E o tq sz (adn 10) (atC b sz a) (fr b sz a) (some (wz.1)) (nuC b sz a) ++ (tW E adn (va_up (va_up (va_up ivn 3 (nI n)) 4 (nI st)) 5 (nI mm)) hrn csn (sK K) ++ (tpW E tq fT ++ (strH E wz.1 wz.2.1 (nx b sz a - fr b sz a) wz.2.2 0 0)))) (by rw [wdR_1 hk_4, wdW_1 hk_4]) hI
    refine lv_ifnonnull (tgt := 12) hxR hbR dX13_item_4 (by decide) ?_
    refine lv_aload_n hxR hbR dX13_item_12 rfl (lv_at hl 0 rfl) ?_
    refine r_get hxR hbR hts hown hK hI okX13 (ci := 12) rfl 0 (he_l rfl) 5 (by decide) q810 rfl (v := .ref wz.1) rfl dX13_item_13 ?_
    refine lv_astore_n (lv' := [(1, .ref wz.1), (0, .ref o)]) hxR hbR dX13_item_16 rfl hl (by decide) rfl (fun ls hl => ?_)
    refine lv_iconst (v := (-1)) hxR hbR dX13_item_17 (by decide) ?_
    refine lv_istore_n (lv' := [(2, .int (-1)), (1, .ref wz.1), (0, .ref o)]) hxR hbR dX13_item_18 rfl hl (by decide) rfl (fun ls hl => ?_)
    refine lv_aload_n hxR hbR dX13_item_19 rfl (lv_at hl 1 rfl) ?_
    have hwl := nx1_lt hk_4 ha
    have hI := wI_w app3 hI
    refine kVI (n := 0) (As := []) (rest := []) (fun w => (rdO E o tq sz (adn 10) (atC b sz a) (fr b sz a) (some (wz.1)) (nuC b sz a) ++ (tW E adn (va_up (va_up (va_up ivn 3 (nI n)) 4 (nI st)) 5 (nI mm)) hrn csn (sK K) ++ (tpW E tq fT))) ++ w) hxR hbR hmlR hts hown hK hA hl.1 (isCtx.pre _) hI (j4_hashCode l E wz.1 wz.2.1 (nx b sz a - fr b sz a) wz.2.2  (by omega) (by omega)) (lw_V q1053 q1054 q1055 q91 q1056) ⟨rfl, by decide +kernel⟩ 0 15 rfl rfl rfl rfl (Nat.le_of_ble_eq_true rfl) (Nat.le_of_ble_eq_true rfl) ⟨by omega, by omega⟩ (Nat.le_of_ble_eq_true rfl) dX13_item_20 (fun r_20 u H locs hp hI hz => ?_)
    obtain ⟨h9_20, z9_20⟩ := u
    have hI := wI_w app3.symm hI
    have hI : wI E AR sR H locs (rdO E o tq sz (adn 10) (atC b sz a) (fr b sz a) (some (wz.1)) (nuC b sz a) ++ (tW E adn (va_up (va_up (va_up ivn 3 (nI n)) 4 (nI st)) 5 (nI mm)) hrn csn (sK K) ++ (tpW E tq fT ++ (strH E wz.1 wz.2.1 (nx b sz a - fr b sz a) wz.2.2 h9_20 z9_20)))) := hI
    have hp : r_20 = hshF wz.2.2 (nx b sz a - fr b sz a) := hp
    have hr_20 := hp
    subst hr_20
    by_cases ck_0 : hshF wz.2.2 (nx b sz a - fr b sz a) = (-1881997444)
    · skip
      refine lv_lookup (off := 85) (tgt := 108) hxR hbR dX13_item_23 (by decide) (by rw [ck_0]; decide) (by decide) ?_
      refine lv_aload_n hxR hbR dX13_item_108 rfl (lv_at hl 1 rfl) ?_
      refine va_ldcS hxR hbR hown (hK.2.2.2.1 ("ThreeStrangers$Reader", 109, "strange", 3) (by decide)) dX13_item_109 ?_
      have hI := wI_w app3 hI
      refine kVI (n := 1) (As := [.ref (E.1.2.1 3)]) (rest := []) (fun w => (rdO E o tq sz (adn 10) (atC b sz a) (fr b sz a) (some (wz.1)) (nuC b sz a) ++ (tW E adn (va_up (va_up (va_up ivn 3 (nI n)) 4 (nI st)) 5 (nI mm)) hrn csn (sK K) ++ (tpW E tq fT))) ++ w) hxR hbR hmlR hts hown hK hA hl.1 (isCtx.pre _) hI (j4_equals l E wz.1 wz.2.1 (nx b sz a - fr b sz a) wz.2.2 h9_20 z9_20 3 (by decide) (by omega)) (lw_V q1107 q1108 q1109 q91 q1110) ⟨rfl, by decide +kernel⟩ 0 15 rfl rfl rfl rfl (Nat.le_of_ble_eq_true rfl) (Nat.le_of_ble_eq_true rfl) ⟨by omega, by omega⟩ (Nat.le_of_ble_eq_true rfl) dX13_item_111 (fun r_111 u H locs hp hI hz => ?_)
      have hI := wI_w app3.symm hI
      have hI : wI E AR sR H locs (rdO E o tq sz (adn 10) (atC b sz a) (fr b sz a) (some (wz.1)) (nuC b sz a) ++ (tW E adn (va_up (va_up (va_up ivn 3 (nI n)) 4 (nI st)) 5 (nI mm)) hrn csn (sK K) ++ (tpW E tq fT ++ (strH E wz.1 wz.2.1 (nx b sz a - fr b sz a) wz.2.2 h9_20 z9_20)))) := hI
      have hp : r_111 = b2i (eqK wz.2.2 (nx b sz a - fr b sz a) 3) := hp
      have hr_111 := hp
      rcases b2i_cases hr_111 with ⟨c_111, rfl⟩ | ⟨c_111, rfl⟩
      · skip
        have c_111 : strEq wz.2.2 (nx b sz a - fr b sz a) 3 := eqK_t c_111
        exact absurd ((wOk_isW hw hk_4).mpr c_111) (hN 3 (by decide) (by decide))
      · skip
        have c_111 : ¬ strEq wz.2.2 (nx b sz a - fr b sz a) 3 := eqK_f c_111
        have hres : (stm b sz n st mm hrn csn K a) = .error (fr b sz a) := stm_none hN
        have hco9 := coE_er (b := b) (sz := sz) (a := a) hres
        refine lv_if_eq (tgt := 161) hxR hbR dX13_item_114 (by decide) (fun _ => ?_) (fun c => absurd c (by decide))
        refine lv_iload_n hxR hbR dX13_item_161 rfl (lv_at hl 0 rfl) ?_
        refine lv_tableOut (tgt := 330) hxR hbR dX13_item_162 (by decide) (by decide) ?_
        refine lv_aload_n hxR hbR dX13_item_330 rfl (lv_at hl 2 rfl) ?_
        have hI : wI E AR sR _ _ (tW E adn (va_up (va_up (va_up ivn 3 (nI n)) 4 (nI st)) 5 (nI mm)) hrn csn (sK K) ++ (tpW E tq fT ++ (strH E wz.1 wz.2.1 (nx b sz a - fr b sz a) wz.2.2 h9_20 z9_20 ++ (rdO E o tq sz (adn 10) (atC b sz a) (fr b sz a) (some (wz.1)) (nuC b sz a))))) := wI_pick ([rdO E o tq sz (adn 10) (atC b sz a) (fr b sz a) (some (wz.1)) (nuC b sz a), tW E adn (va_up (va_up (va_up ivn 3 (nI n)) 4 (nI st)) 5 (nI mm)) hrn csn (sK K), tpW E tq fT, strH E wz.1 wz.2.1 (nx b sz a - fr b sz a) wz.2.2 h9_20 z9_20]) [1, 2, 3, 0] 4 rfl (by decide) hI
        have hI := wI_w app3 hI
        refine kVR (n := 0) (As := []) (rest := []) (fun w => (tW E adn (va_up (va_up (va_up ivn 3 (nI n)) 4 (nI st)) 5 (nI mm)) hrn csn (sK K) ++ (tpW E tq fT ++ (strH E wz.1 wz.2.1 (nx b sz a - fr b sz a) wz.2.2 h9_20 z9_20))) ++ w) hxR hbR hmlR hts hown hK hA hl.1 (isCtx.pre _) hI (c13_wrong l E o tq (adn 10) (atC b sz a) (fr b sz a) (some (wz.1)) (nuC b sz a) sz ) (lw_V q1030 q1032 qs11 q107 q1033) ⟨rfl, by decide +kernel⟩ 0 12 rfl rfl rfl rfl (Nat.le_of_ble_eq_true rfl) (Nat.le_of_ble_eq_true rfl) ⟨by omega, by omega⟩ (Nat.le_of_ble_eq_true rfl) dX13_item_331 (fun u r_331 H locs hp hI hz => ?_)
        have hI := wI_w app3.symm hI
        have hI : wI E AR sR H locs (tW E adn (va_up (va_up (va_up ivn 3 (nI n)) 4 (nI st)) 5 (nI mm)) hrn csn (sK K) ++ (tpW E tq fT ++ (strH E wz.1 wz.2.1 (nx b sz a - fr b sz a) wz.2.2 h9_20 z9_20 ++ (rdO E o tq sz (adn 10) (atC b sz a) (fr b sz a) (some (wz.1)) (nuC b sz a) ++ ([(r_331, .inr (13, [.null, .null, .null, .null, .null, .int 0, .int (nI (fr b sz a))]))]))))) := hI
        have hI : wI E AR sR _ _ (tW E adn (va_up (va_up (va_up ivn 3 (nI n)) 4 (nI st)) 5 (nI mm)) hrn csn (sK K) ++ (strH E wz.1 wz.2.1 (nx b sz a - fr b sz a) wz.2.2 h9_20 z9_20 ++ (rdO E o tq sz (adn 10) (atC b sz a) (fr b sz a) (some (wz.1)) (nuC b sz a) ++ (tpW E tq fT ++ ([(r_331, .inr (13, [.null, .null, .null, .null, .null, .int 0, .int (nI (fr b sz a))]))]))))) := wI_pick ([tW E adn (va_up (va_up (va_up ivn 3 (nI n)) 4 (nI st)) 5 (nI mm)) hrn csn (sK K), tpW E tq fT, strH E wz.1 wz.2.1 (nx b sz a - fr b sz a) wz.2.2 h9_20 z9_20, rdO E o tq sz (adn 10) (atC b sz a) (fr b sz a) (some (wz.1)) (nuC b sz a), [(r_331, .inr (13, [.null, .null, .null, .null, .null, .int 0, .int (nI (fr b sz a))]))]]) [0, 2, 3, 1, 4] 5 rfl (by decide) hI
        have hI := wI_dropL hI
        have hI := wI_dropL hI
        have hI := wI_dropL hI
        have hI : wI E AR sR _ _ (tpW E tq fT ++ ([(r_331, .inr (13, [.null, .null, .null, .null, .null, .int 0, .int (nI (fr b sz a))]))])) := hI
        refine vx_athrow hxR hbR dX13_item_334 ?_
        obtain ⟨ce_334, hq1, hq2, hq3⟩ := wI_thrown hK hI (ci := 13) (nm := "ThreeStrangers$Fault") rfl rfl (q0 := (1 + 0)) (he_r (Nat.le_of_ble_eq_true rfl) (Nat.le_of_ble_eq_true rfl) rfl)
        exact hthr (fr b sz a) _ _ _ _ _ _ _ _ _ _ hq1 hq2 hq3 hI ⟨rfl, hres⟩ (by omega) (by omega)
    by_cases ck_1 : hshF wz.2.2 (nx b sz a - fr b sz a) = (-1077756671)
    · skip
      refine lv_lookup (off := 113) (tgt := 136) hxR hbR dX13_item_23 (by decide) (by rw [ck_1]; decide) (by decide) ?_
      refine lv_aload_n hxR hbR dX13_item_136 rfl (lv_at hl 1 rfl) ?_
      refine va_ldcS hxR hbR hown (hK.2.2.2.1 ("ThreeStrangers$Reader", 113, "memory", 5) (by decide)) dX13_item_137 ?_
      have hI := wI_w app3 hI
      refine kVI (n := 1) (As := [.ref (E.1.2.1 5)]) (rest := []) (fun w => (rdO E o tq sz (adn 10) (atC b sz a) (fr b sz a) (some (wz.1)) (nuC b sz a) ++ (tW E adn (va_up (va_up (va_up ivn 3 (nI n)) 4 (nI st)) 5 (nI mm)) hrn csn (sK K) ++ (tpW E tq fT))) ++ w) hxR hbR hmlR hts hown hK hA hl.1 (isCtx.pre _) hI (j4_equals l E wz.1 wz.2.1 (nx b sz a - fr b sz a) wz.2.2 h9_20 z9_20 5 (by decide) (by omega)) (lw_V q1107 q1108 q1109 q91 q1110) ⟨rfl, by decide +kernel⟩ 0 15 rfl rfl rfl rfl (Nat.le_of_ble_eq_true rfl) (Nat.le_of_ble_eq_true rfl) ⟨by omega, by omega⟩ (Nat.le_of_ble_eq_true rfl) dX13_item_139 (fun r_139 u H locs hp hI hz => ?_)
      have hI := wI_w app3.symm hI
      have hI : wI E AR sR H locs (rdO E o tq sz (adn 10) (atC b sz a) (fr b sz a) (some (wz.1)) (nuC b sz a) ++ (tW E adn (va_up (va_up (va_up ivn 3 (nI n)) 4 (nI st)) 5 (nI mm)) hrn csn (sK K) ++ (tpW E tq fT ++ (strH E wz.1 wz.2.1 (nx b sz a - fr b sz a) wz.2.2 h9_20 z9_20)))) := hI
      have hp : r_139 = b2i (eqK wz.2.2 (nx b sz a - fr b sz a) 5) := hp
      have hr_139 := hp
      rcases b2i_cases hr_139 with ⟨c_139, rfl⟩ | ⟨c_139, rfl⟩
      · skip
        have c_139 : strEq wz.2.2 (nx b sz a - fr b sz a) 5 := eqK_t c_139
        exact absurd ((wOk_isW hw hk_4).mpr c_139) (hN 5 (by decide) (by decide))
      · skip
        have c_139 : ¬ strEq wz.2.2 (nx b sz a - fr b sz a) 5 := eqK_f c_139
        have hres : (stm b sz n st mm hrn csn K a) = .error (fr b sz a) := stm_none hN
        have hco9 := coE_er (b := b) (sz := sz) (a := a) hres
        refine lv_if_eq (tgt := 161) hxR hbR dX13_item_142 (by decide) (fun _ => ?_) (fun c => absurd c (by decide))
        refine lv_iload_n hxR hbR dX13_item_161 rfl (lv_at hl 0 rfl) ?_
        refine lv_tableOut (tgt := 330) hxR hbR dX13_item_162 (by decide) (by decide) ?_
        refine lv_aload_n hxR hbR dX13_item_330 rfl (lv_at hl 2 rfl) ?_
        have hI : wI E AR sR _ _ (tW E adn (va_up (va_up (va_up ivn 3 (nI n)) 4 (nI st)) 5 (nI mm)) hrn csn (sK K) ++ (tpW E tq fT ++ (strH E wz.1 wz.2.1 (nx b sz a - fr b sz a) wz.2.2 h9_20 z9_20 ++ (rdO E o tq sz (adn 10) (atC b sz a) (fr b sz a) (some (wz.1)) (nuC b sz a))))) := wI_pick ([rdO E o tq sz (adn 10) (atC b sz a) (fr b sz a) (some (wz.1)) (nuC b sz a), tW E adn (va_up (va_up (va_up ivn 3 (nI n)) 4 (nI st)) 5 (nI mm)) hrn csn (sK K), tpW E tq fT, strH E wz.1 wz.2.1 (nx b sz a - fr b sz a) wz.2.2 h9_20 z9_20]) [1, 2, 3, 0] 4 rfl (by decide) hI
        have hI := wI_w app3 hI
        refine kVR (n := 0) (As := []) (rest := []) (fun w => (tW E adn (va_up (va_up (va_up ivn 3 (nI n)) 4 (nI st)) 5 (nI mm)) hrn csn (sK K) ++ (tpW E tq fT ++ (strH E wz.1 wz.2.1 (nx b sz a - fr b sz a) wz.2.2 h9_20 z9_20))) ++ w) hxR hbR hmlR hts hown hK hA hl.1 (isCtx.pre _) hI (c13_wrong l E o tq (adn 10) (atC b sz a) (fr b sz a) (some (wz.1)) (nuC b sz a) sz ) (lw_V q1030 q1032 qs11 q107 q1033) ⟨rfl, by decide +kernel⟩ 0 12 rfl rfl rfl rfl (Nat.le_of_ble_eq_true rfl) (Nat.le_of_ble_eq_true rfl) ⟨by omega, by omega⟩ (Nat.le_of_ble_eq_true rfl) dX13_item_331 (fun u r_331 H locs hp hI hz => ?_)
        have hI := wI_w app3.symm hI
        have hI : wI E AR sR H locs (tW E adn (va_up (va_up (va_up ivn 3 (nI n)) 4 (nI st)) 5 (nI mm)) hrn csn (sK K) ++ (tpW E tq fT ++ (strH E wz.1 wz.2.1 (nx b sz a - fr b sz a) wz.2.2 h9_20 z9_20 ++ (rdO E o tq sz (adn 10) (atC b sz a) (fr b sz a) (some (wz.1)) (nuC b sz a) ++ ([(r_331, .inr (13, [.null, .null, .null, .null, .null, .int 0, .int (nI (fr b sz a))]))]))))) := hI
        have hI : wI E AR sR _ _ (tW E adn (va_up (va_up (va_up ivn 3 (nI n)) 4 (nI st)) 5 (nI mm)) hrn csn (sK K) ++ (strH E wz.1 wz.2.1 (nx b sz a - fr b sz a) wz.2.2 h9_20 z9_20 ++ (rdO E o tq sz (adn 10) (atC b sz a) (fr b sz a) (some (wz.1)) (nuC b sz a) ++ (tpW E tq fT ++ ([(r_331, .inr (13, [.null, .null, .null, .null, .null, .int 0, .int (nI (fr b sz a))]))]))))) := wI_pick ([tW E adn (va_up (va_up (va_up ivn 3 (nI n)) 4 (nI st)) 5 (nI mm)) hrn csn (sK K), tpW E tq fT, strH E wz.1 wz.2.1 (nx b sz a - fr b sz a) wz.2.2 h9_20 z9_20, rdO E o tq sz (adn 10) (atC b sz a) (fr b sz a) (some (wz.1)) (nuC b sz a), [(r_331, .inr (13, [.null, .null, .null, .null, .null, .int 0, .int (nI (fr b sz a))]))]]) [0, 2, 3, 1, 4] 5 rfl (by decide) hI
        have hI := wI_dropL hI
        have hI := wI_dropL hI
        have hI := wI_dropL hI
        have hI : wI E AR sR _ _ (tpW E tq fT ++ ([(r_331, .inr (13, [.null, .null, .null, .null, .null, .int 0, .int (nI (fr b sz a))]))])) := hI
        refine vx_athrow hxR hbR dX13_item_334 ?_
        obtain ⟨ce_334, hq1, hq2, hq3⟩ := wI_thrown hK hI (ci := 13) (nm := "ThreeStrangers$Fault") rfl rfl (q0 := (1 + 0)) (he_r (Nat.le_of_ble_eq_true rfl) (Nat.le_of_ble_eq_true rfl) rfl)
        exact hthr (fr b sz a) _ _ _ _ _ _ _ _ _ _ hq1 hq2 hq3 hI ⟨rfl, hres⟩ (by omega) (by omega)
    by_cases ck_2 : hshF wz.2.2 (nx b sz a - fr b sz a) = (-991716523)
    · skip
      refine lv_lookup (off := 57) (tgt := 80) hxR hbR dX13_item_23 (by decide) (by rw [ck_2]; decide) (by decide) ?_
      refine lv_aload_n hxR hbR dX13_item_80 rfl (lv_at hl 1 rfl) ?_
      refine va_ldcS hxR hbR hown (hK.2.2.2.1 ("ThreeStrangers$Reader", 105, "person", 1) (by decide)) dX13_item_81 ?_
      have hI := wI_w app3 hI
      refine kVI (n := 1) (As := [.ref (E.1.2.1 1)]) (rest := []) (fun w => (rdO E o tq sz (adn 10) (atC b sz a) (fr b sz a) (some (wz.1)) (nuC b sz a) ++ (tW E adn (va_up (va_up (va_up ivn 3 (nI n)) 4 (nI st)) 5 (nI mm)) hrn csn (sK K) ++ (tpW E tq fT))) ++ w) hxR hbR hmlR hts hown hK hA hl.1 (isCtx.pre _) hI (j4_equals l E wz.1 wz.2.1 (nx b sz a - fr b sz a) wz.2.2 h9_20 z9_20 1 (by decide) (by omega)) (lw_V q1107 q1108 q1109 q91 q1110) ⟨rfl, by decide +kernel⟩ 0 15 rfl rfl rfl rfl (Nat.le_of_ble_eq_true rfl) (Nat.le_of_ble_eq_true rfl) ⟨by omega, by omega⟩ (Nat.le_of_ble_eq_true rfl) dX13_item_83 (fun r_83 u H locs hp hI hz => ?_)
      have hI := wI_w app3.symm hI
      have hI : wI E AR sR H locs (rdO E o tq sz (adn 10) (atC b sz a) (fr b sz a) (some (wz.1)) (nuC b sz a) ++ (tW E adn (va_up (va_up (va_up ivn 3 (nI n)) 4 (nI st)) 5 (nI mm)) hrn csn (sK K) ++ (tpW E tq fT ++ (strH E wz.1 wz.2.1 (nx b sz a - fr b sz a) wz.2.2 h9_20 z9_20)))) := hI
      have hp : r_83 = b2i (eqK wz.2.2 (nx b sz a - fr b sz a) 1) := hp
      have hr_83 := hp
      rcases b2i_cases hr_83 with ⟨c_83, rfl⟩ | ⟨c_83, rfl⟩
      · skip
        have c_83 : strEq wz.2.2 (nx b sz a - fr b sz a) 1 := eqK_t c_83
        exact absurd ((wOk_isW hw hk_4).mpr c_83) (hN 1 (by decide) (by decide))
      · skip
        have c_83 : ¬ strEq wz.2.2 (nx b sz a - fr b sz a) 1 := eqK_f c_83
        have hres : (stm b sz n st mm hrn csn K a) = .error (fr b sz a) := stm_none hN
        have hco9 := coE_er (b := b) (sz := sz) (a := a) hres
        refine lv_if_eq (tgt := 161) hxR hbR dX13_item_86 (by decide) (fun _ => ?_) (fun c => absurd c (by decide))
        refine lv_iload_n hxR hbR dX13_item_161 rfl (lv_at hl 0 rfl) ?_
        refine lv_tableOut (tgt := 330) hxR hbR dX13_item_162 (by decide) (by decide) ?_
        refine lv_aload_n hxR hbR dX13_item_330 rfl (lv_at hl 2 rfl) ?_
        have hI : wI E AR sR _ _ (tW E adn (va_up (va_up (va_up ivn 3 (nI n)) 4 (nI st)) 5 (nI mm)) hrn csn (sK K) ++ (tpW E tq fT ++ (strH E wz.1 wz.2.1 (nx b sz a - fr b sz a) wz.2.2 h9_20 z9_20 ++ (rdO E o tq sz (adn 10) (atC b sz a) (fr b sz a) (some (wz.1)) (nuC b sz a))))) := wI_pick ([rdO E o tq sz (adn 10) (atC b sz a) (fr b sz a) (some (wz.1)) (nuC b sz a), tW E adn (va_up (va_up (va_up ivn 3 (nI n)) 4 (nI st)) 5 (nI mm)) hrn csn (sK K), tpW E tq fT, strH E wz.1 wz.2.1 (nx b sz a - fr b sz a) wz.2.2 h9_20 z9_20]) [1, 2, 3, 0] 4 rfl (by decide) hI
        have hI := wI_w app3 hI
        refine kVR (n := 0) (As := []) (rest := []) (fun w => (tW E adn (va_up (va_up (va_up ivn 3 (nI n)) 4 (nI st)) 5 (nI mm)) hrn csn (sK K) ++ (tpW E tq fT ++ (strH E wz.1 wz.2.1 (nx b sz a - fr b sz a) wz.2.2 h9_20 z9_20))) ++ w) hxR hbR hmlR hts hown hK hA hl.1 (isCtx.pre _) hI (c13_wrong l E o tq (adn 10) (atC b sz a) (fr b sz a) (some (wz.1)) (nuC b sz a) sz ) (lw_V q1030 q1032 qs11 q107 q1033) ⟨rfl, by decide +kernel⟩ 0 12 rfl rfl rfl rfl (Nat.le_of_ble_eq_true rfl) (Nat.le_of_ble_eq_true rfl) ⟨by omega, by omega⟩ (Nat.le_of_ble_eq_true rfl) dX13_item_331 (fun u r_331 H locs hp hI hz => ?_)
        have hI := wI_w app3.symm hI
        have hI : wI E AR sR H locs (tW E adn (va_up (va_up (va_up ivn 3 (nI n)) 4 (nI st)) 5 (nI mm)) hrn csn (sK K) ++ (tpW E tq fT ++ (strH E wz.1 wz.2.1 (nx b sz a - fr b sz a) wz.2.2 h9_20 z9_20 ++ (rdO E o tq sz (adn 10) (atC b sz a) (fr b sz a) (some (wz.1)) (nuC b sz a) ++ ([(r_331, .inr (13, [.null, .null, .null, .null, .null, .int 0, .int (nI (fr b sz a))]))]))))) := hI
        have hI : wI E AR sR _ _ (tW E adn (va_up (va_up (va_up ivn 3 (nI n)) 4 (nI st)) 5 (nI mm)) hrn csn (sK K) ++ (strH E wz.1 wz.2.1 (nx b sz a - fr b sz a) wz.2.2 h9_20 z9_20 ++ (rdO E o tq sz (adn 10) (atC b sz a) (fr b sz a) (some (wz.1)) (nuC b sz a) ++ (tpW E tq fT ++ ([(r_331, .inr (13, [.null, .null, .null, .null, .null, .int 0, .int (nI (fr b sz a))]))]))))) := wI_pick ([tW E adn (va_up (va_up (va_up ivn 3 (nI n)) 4 (nI st)) 5 (nI mm)) hrn csn (sK K), tpW E tq fT, strH E wz.1 wz.2.1 (nx b sz a - fr b sz a) wz.2.2 h9_20 z9_20, rdO E o tq sz (adn 10) (atC b sz a) (fr b sz a) (some (wz.1)) (nuC b sz a), [(r_331, .inr (13, [.null, .null, .null, .null, .null, .int 0, .int (nI (fr b sz a))]))]]) [0, 2, 3, 1, 4] 5 rfl (by decide) hI
        have hI := wI_dropL hI
        have hI := wI_dropL hI
        have hI := wI_dropL hI
        have hI : wI E AR sR _ _ (tpW E tq fT ++ ([(r_331, .inr (13, [.null, .null, .null, .null, .null, .int 0, .int (nI (fr b sz a))]))])) := hI
        refine vx_athrow hxR hbR dX13_item_334 ?_
        obtain ⟨ce_334, hq1, hq2, hq3⟩ := wI_thrown hK hI (ci := 13) (nm := "ThreeStrangers$Fault") rfl rfl (q0 := (1 + 0)) (he_r (Nat.le_of_ble_eq_true rfl) (Nat.le_of_ble_eq_true rfl) rfl)
        exact hthr (fr b sz a) _ _ _ _ _ _ _ _ _ _ hq1 hq2 hq3 hI ⟨rfl, hres⟩ (by omega) (by omega)
    by_cases ck_3 : hshF wz.2.2 (nx b sz a - fr b sz a) = 107996
    · skip
      refine lv_lookup (off := 127) (tgt := 150) hxR hbR dX13_item_23 (by decide) (by rw [ck_3]; decide) (by decide) ?_
      refine lv_aload_n hxR hbR dX13_item_150 rfl (lv_at hl 1 rfl) ?_
      refine va_ldcS hxR hbR hown (hK.2.2.2.1 ("ThreeStrangers$Reader", 115, "met", 6) (by decide)) dX13_item_151 ?_
      have hI := wI_w app3 hI
      refine kVI (n := 1) (As := [.ref (E.1.2.1 6)]) (rest := []) (fun w => (rdO E o tq sz (adn 10) (atC b sz a) (fr b sz a) (some (wz.1)) (nuC b sz a) ++ (tW E adn (va_up (va_up (va_up ivn 3 (nI n)) 4 (nI st)) 5 (nI mm)) hrn csn (sK K) ++ (tpW E tq fT))) ++ w) hxR hbR hmlR hts hown hK hA hl.1 (isCtx.pre _) hI (j4_equals l E wz.1 wz.2.1 (nx b sz a - fr b sz a) wz.2.2 h9_20 z9_20 6 (by decide) (by omega)) (lw_V q1107 q1108 q1109 q91 q1110) ⟨rfl, by decide +kernel⟩ 0 15 rfl rfl rfl rfl (Nat.le_of_ble_eq_true rfl) (Nat.le_of_ble_eq_true rfl) ⟨by omega, by omega⟩ (Nat.le_of_ble_eq_true rfl) dX13_item_153 (fun r_153 u H locs hp hI hz => ?_)
      have hI := wI_w app3.symm hI
      have hI : wI E AR sR H locs (rdO E o tq sz (adn 10) (atC b sz a) (fr b sz a) (some (wz.1)) (nuC b sz a) ++ (tW E adn (va_up (va_up (va_up ivn 3 (nI n)) 4 (nI st)) 5 (nI mm)) hrn csn (sK K) ++ (tpW E tq fT ++ (strH E wz.1 wz.2.1 (nx b sz a - fr b sz a) wz.2.2 h9_20 z9_20)))) := hI
      have hp : r_153 = b2i (eqK wz.2.2 (nx b sz a - fr b sz a) 6) := hp
      have hr_153 := hp
      rcases b2i_cases hr_153 with ⟨c_153, rfl⟩ | ⟨c_153, rfl⟩
      · skip
        have c_153 : strEq wz.2.2 (nx b sz a - fr b sz a) 6 := eqK_t c_153
        exact absurd ((wOk_isW hw hk_4).mpr c_153) (hN 6 (by decide) (by decide))
      · skip
        have c_153 : ¬ strEq wz.2.2 (nx b sz a - fr b sz a) 6 := eqK_f c_153
        have hres : (stm b sz n st mm hrn csn K a) = .error (fr b sz a) := stm_none hN
        have hco9 := coE_er (b := b) (sz := sz) (a := a) hres
        refine lv_if_eq (tgt := 161) hxR hbR dX13_item_156 (by decide) (fun _ => ?_) (fun c => absurd c (by decide))
        refine lv_iload_n hxR hbR dX13_item_161 rfl (lv_at hl 0 rfl) ?_
        refine lv_tableOut (tgt := 330) hxR hbR dX13_item_162 (by decide) (by decide) ?_
        refine lv_aload_n hxR hbR dX13_item_330 rfl (lv_at hl 2 rfl) ?_
        have hI : wI E AR sR _ _ (tW E adn (va_up (va_up (va_up ivn 3 (nI n)) 4 (nI st)) 5 (nI mm)) hrn csn (sK K) ++ (tpW E tq fT ++ (strH E wz.1 wz.2.1 (nx b sz a - fr b sz a) wz.2.2 h9_20 z9_20 ++ (rdO E o tq sz (adn 10) (atC b sz a) (fr b sz a) (some (wz.1)) (nuC b sz a))))) := wI_pick ([rdO E o tq sz (adn 10) (atC b sz a) (fr b sz a) (some (wz.1)) (nuC b sz a), tW E adn (va_up (va_up (va_up ivn 3 (nI n)) 4 (nI st)) 5 (nI mm)) hrn csn (sK K), tpW E tq fT, strH E wz.1 wz.2.1 (nx b sz a - fr b sz a) wz.2.2 h9_20 z9_20]) [1, 2, 3, 0] 4 rfl (by decide) hI
        have hI := wI_w app3 hI
        refine kVR (n := 0) (As := []) (rest := []) (fun w => (tW E adn (va_up (va_up (va_up ivn 3 (nI n)) 4 (nI st)) 5 (nI mm)) hrn csn (sK K) ++ (tpW E tq fT ++ (strH E wz.1 wz.2.1 (nx b sz a - fr b sz a) wz.2.2 h9_20 z9_20))) ++ w) hxR hbR hmlR hts hown hK hA hl.1 (isCtx.pre _) hI (c13_wrong l E o tq (adn 10) (atC b sz a) (fr b sz a) (some (wz.1)) (nuC b sz a) sz ) (lw_V q1030 q1032 qs11 q107 q1033) ⟨rfl, by decide +kernel⟩ 0 12 rfl rfl rfl rfl (Nat.le_of_ble_eq_true rfl) (Nat.le_of_ble_eq_true rfl) ⟨by omega, by omega⟩ (Nat.le_of_ble_eq_true rfl) dX13_item_331 (fun u r_331 H locs hp hI hz => ?_)
        have hI := wI_w app3.symm hI
        have hI : wI E AR sR H locs (tW E adn (va_up (va_up (va_up ivn 3 (nI n)) 4 (nI st)) 5 (nI mm)) hrn csn (sK K) ++ (tpW E tq fT ++ (strH E wz.1 wz.2.1 (nx b sz a - fr b sz a) wz.2.2 h9_20 z9_20 ++ (rdO E o tq sz (adn 10) (atC b sz a) (fr b sz a) (some (wz.1)) (nuC b sz a) ++ ([(r_331, .inr (13, [.null, .null, .null, .null, .null, .int 0, .int (nI (fr b sz a))]))]))))) := hI
        have hI : wI E AR sR _ _ (tW E adn (va_up (va_up (va_up ivn 3 (nI n)) 4 (nI st)) 5 (nI mm)) hrn csn (sK K) ++ (strH E wz.1 wz.2.1 (nx b sz a - fr b sz a) wz.2.2 h9_20 z9_20 ++ (rdO E o tq sz (adn 10) (atC b sz a) (fr b sz a) (some (wz.1)) (nuC b sz a) ++ (tpW E tq fT ++ ([(r_331, .inr (13, [.null, .null, .null, .null, .null, .int 0, .int (nI (fr b sz a))]))]))))) := wI_pick ([tW E adn (va_up (va_up (va_up ivn 3 (nI n)) 4 (nI st)) 5 (nI mm)) hrn csn (sK K), tpW E tq fT, strH E wz.1 wz.2.1 (nx b sz a - fr b sz a) wz.2.2 h9_20 z9_20, rdO E o tq sz (adn 10) (atC b sz a) (fr b sz a) (some (wz.1)) (nuC b sz a), [(r_331, .inr (13, [.null, .null, .null, .null, .null, .int 0, .int (nI (fr b sz a))]))]]) [0, 2, 3, 1, 4] 5 rfl (by decide) hI
        have hI := wI_dropL hI
        have hI := wI_dropL hI
        have hI := wI_dropL hI
        have hI : wI E AR sR _ _ (tpW E tq fT ++ ([(r_331, .inr (13, [.null, .null, .null, .null, .null, .int 0, .int (nI (fr b sz a))]))])) := hI
        refine vx_athrow hxR hbR dX13_item_334 ?_
        obtain ⟨ce_334, hq1, hq2, hq3⟩ := wI_thrown hK hI (ci := 13) (nm := "ThreeStrangers$Fault") rfl rfl (q0 := (1 + 0)) (he_r (Nat.le_of_ble_eq_true rfl) (Nat.le_of_ble_eq_true rfl) rfl)
        exact hthr (fr b sz a) _ _ _ _ _ _ _ _ _ _ hq1 hq2 hq3 hI ⟨rfl, hres⟩ (by omega) (by omega)
    by_cases ck_4 : hshF wz.2.2 (nx b sz a - fr b sz a) = 3296907
    · skip
      refine lv_lookup (off := 71) (tgt := 94) hxR hbR dX13_item_23 (by decide) (by rw [ck_4]; decide) (by decide) ?_
      refine lv_aload_n hxR hbR dX13_item_94 rfl (lv_at hl 1 rfl) ?_
      refine va_ldcS hxR hbR hown (hK.2.2.2.1 ("ThreeStrangers$Reader", 107, "know", 2) (by decide)) dX13_item_95 ?_
      have hI := wI_w app3 hI
      refine kVI (n := 1) (As := [.ref (E.1.2.1 2)]) (rest := []) (fun w => (rdO E o tq sz (adn 10) (atC b sz a) (fr b sz a) (some (wz.1)) (nuC b sz a) ++ (tW E adn (va_up (va_up (va_up ivn 3 (nI n)) 4 (nI st)) 5 (nI mm)) hrn csn (sK K) ++ (tpW E tq fT))) ++ w) hxR hbR hmlR hts hown hK hA hl.1 (isCtx.pre _) hI (j4_equals l E wz.1 wz.2.1 (nx b sz a - fr b sz a) wz.2.2 h9_20 z9_20 2 (by decide) (by omega)) (lw_V q1107 q1108 q1109 q91 q1110) ⟨rfl, by decide +kernel⟩ 0 15 rfl rfl rfl rfl (Nat.le_of_ble_eq_true rfl) (Nat.le_of_ble_eq_true rfl) ⟨by omega, by omega⟩ (Nat.le_of_ble_eq_true rfl) dX13_item_97 (fun r_97 u H locs hp hI hz => ?_)
      have hI := wI_w app3.symm hI
      have hI : wI E AR sR H locs (rdO E o tq sz (adn 10) (atC b sz a) (fr b sz a) (some (wz.1)) (nuC b sz a) ++ (tW E adn (va_up (va_up (va_up ivn 3 (nI n)) 4 (nI st)) 5 (nI mm)) hrn csn (sK K) ++ (tpW E tq fT ++ (strH E wz.1 wz.2.1 (nx b sz a - fr b sz a) wz.2.2 h9_20 z9_20)))) := hI
      have hp : r_97 = b2i (eqK wz.2.2 (nx b sz a - fr b sz a) 2) := hp
      have hr_97 := hp
      rcases b2i_cases hr_97 with ⟨c_97, rfl⟩ | ⟨c_97, rfl⟩
      · skip
        have c_97 : strEq wz.2.2 (nx b sz a - fr b sz a) 2 := eqK_t c_97
        exact absurd ((wOk_isW hw hk_4).mpr c_97) (hN 2 (by decide) (by decide))
      · skip
        have c_97 : ¬ strEq wz.2.2 (nx b sz a - fr b sz a) 2 := eqK_f c_97
        have hres : (stm b sz n st mm hrn csn K a) = .error (fr b sz a) := stm_none hN
        have hco9 := coE_er (b := b) (sz := sz) (a := a) hres
        refine lv_if_eq (tgt := 161) hxR hbR dX13_item_100 (by decide) (fun _ => ?_) (fun c => absurd c (by decide))
        refine lv_iload_n hxR hbR dX13_item_161 rfl (lv_at hl 0 rfl) ?_
        refine lv_tableOut (tgt := 330) hxR hbR dX13_item_162 (by decide) (by decide) ?_
        refine lv_aload_n hxR hbR dX13_item_330 rfl (lv_at hl 2 rfl) ?_
        have hI : wI E AR sR _ _ (tW E adn (va_up (va_up (va_up ivn 3 (nI n)) 4 (nI st)) 5 (nI mm)) hrn csn (sK K) ++ (tpW E tq fT ++ (strH E wz.1 wz.2.1 (nx b sz a - fr b sz a) wz.2.2 h9_20 z9_20 ++ (rdO E o tq sz (adn 10) (atC b sz a) (fr b sz a) (some (wz.1)) (nuC b sz a))))) := wI_pick ([rdO E o tq sz (adn 10) (atC b sz a) (fr b sz a) (some (wz.1)) (nuC b sz a), tW E adn (va_up (va_up (va_up ivn 3 (nI n)) 4 (nI st)) 5 (nI mm)) hrn csn (sK K), tpW E tq fT, strH E wz.1 wz.2.1 (nx b sz a - fr b sz a) wz.2.2 h9_20 z9_20]) [1, 2, 3, 0] 4 rfl (by decide) hI
        have hI := wI_w app3 hI
        refine kVR (n := 0) (As := []) (rest := []) (fun w => (tW E adn (va_up (va_up (va_up ivn 3 (nI n)) 4 (nI st)) 5 (nI mm)) hrn csn (sK K) ++ (tpW E tq fT ++ (strH E wz.1 wz.2.1 (nx b sz a - fr b sz a) wz.2.2 h9_20 z9_20))) ++ w) hxR hbR hmlR hts hown hK hA hl.1 (isCtx.pre _) hI (c13_wrong l E o tq (adn 10) (atC b sz a) (fr b sz a) (some (wz.1)) (nuC b sz a) sz ) (lw_V q1030 q1032 qs11 q107 q1033) ⟨rfl, by decide +kernel⟩ 0 12 rfl rfl rfl rfl (Nat.le_of_ble_eq_true rfl) (Nat.le_of_ble_eq_true rfl) ⟨by omega, by omega⟩ (Nat.le_of_ble_eq_true rfl) dX13_item_331 (fun u r_331 H locs hp hI hz => ?_)
        have hI := wI_w app3.symm hI
        have hI : wI E AR sR H locs (tW E adn (va_up (va_up (va_up ivn 3 (nI n)) 4 (nI st)) 5 (nI mm)) hrn csn (sK K) ++ (tpW E tq fT ++ (strH E wz.1 wz.2.1 (nx b sz a - fr b sz a) wz.2.2 h9_20 z9_20 ++ (rdO E o tq sz (adn 10) (atC b sz a) (fr b sz a) (some (wz.1)) (nuC b sz a) ++ ([(r_331, .inr (13, [.null, .null, .null, .null, .null, .int 0, .int (nI (fr b sz a))]))]))))) := hI
        have hI : wI E AR sR _ _ (tW E adn (va_up (va_up (va_up ivn 3 (nI n)) 4 (nI st)) 5 (nI mm)) hrn csn (sK K) ++ (strH E wz.1 wz.2.1 (nx b sz a - fr b sz a) wz.2.2 h9_20 z9_20 ++ (rdO E o tq sz (adn 10) (atC b sz a) (fr b sz a) (some (wz.1)) (nuC b sz a) ++ (tpW E tq fT ++ ([(r_331, .inr (13, [.null, .null, .null, .null, .null, .int 0, .int (nI (fr b sz a))]))]))))) := wI_pick ([tW E adn (va_up (va_up (va_up ivn 3 (nI n)) 4 (nI st)) 5 (nI mm)) hrn csn (sK K), tpW E tq fT, strH E wz.1 wz.2.1 (nx b sz a - fr b sz a) wz.2.2 h9_20 z9_20, rdO E o tq sz (adn 10) (atC b sz a) (fr b sz a) (some (wz.1)) (nuC b sz a), [(r_331, .inr (13, [.null, .null, .null, .null, .null, .int 0, .int (nI (fr b sz a))]))]]) [0, 2, 3, 1, 4] 5 rfl (by decide) hI
        have hI := wI_dropL hI
        have hI := wI_dropL hI
        have hI := wI_dropL hI
        have hI : wI E AR sR _ _ (tpW E tq fT ++ ([(r_331, .inr (13, [.null, .null, .null, .null, .null, .int 0, .int (nI (fr b sz a))]))])) := hI
        refine vx_athrow hxR hbR dX13_item_334 ?_
        obtain ⟨ce_334, hq1, hq2, hq3⟩ := wI_thrown hK hI (ci := 13) (nm := "ThreeStrangers$Fault") rfl rfl (q0 := (1 + 0)) (he_r (Nat.le_of_ble_eq_true rfl) (Nat.le_of_ble_eq_true rfl) rfl)
        exact hthr (fr b sz a) _ _ _ _ _ _ _ _ _ _ hq1 hq2 hq3 hI ⟨rfl, hres⟩ (by omega) (by omega)
    by_cases ck_5 : hshF wz.2.2 (nx b sz a - fr b sz a) = 109310734
    · skip
      refine lv_lookup (off := 99) (tgt := 122) hxR hbR dX13_item_23 (by decide) (by rw [ck_5]; decide) (by decide) ?_
      refine lv_aload_n hxR hbR dX13_item_122 rfl (lv_at hl 1 rfl) ?_
      refine va_ldcS hxR hbR hown (hK.2.2.2.1 ("ThreeStrangers$Reader", 111, "seats", 4) (by decide)) dX13_item_123 ?_
      have hI := wI_w app3 hI
      refine kVI (n := 1) (As := [.ref (E.1.2.1 4)]) (rest := []) (fun w => (rdO E o tq sz (adn 10) (atC b sz a) (fr b sz a) (some (wz.1)) (nuC b sz a) ++ (tW E adn (va_up (va_up (va_up ivn 3 (nI n)) 4 (nI st)) 5 (nI mm)) hrn csn (sK K) ++ (tpW E tq fT))) ++ w) hxR hbR hmlR hts hown hK hA hl.1 (isCtx.pre _) hI (j4_equals l E wz.1 wz.2.1 (nx b sz a - fr b sz a) wz.2.2 h9_20 z9_20 4 (by decide) (by omega)) (lw_V q1107 q1108 q1109 q91 q1110) ⟨rfl, by decide +kernel⟩ 0 15 rfl rfl rfl rfl (Nat.le_of_ble_eq_true rfl) (Nat.le_of_ble_eq_true rfl) ⟨by omega, by omega⟩ (Nat.le_of_ble_eq_true rfl) dX13_item_125 (fun r_125 u H locs hp hI hz => ?_)
      have hI := wI_w app3.symm hI
      have hI : wI E AR sR H locs (rdO E o tq sz (adn 10) (atC b sz a) (fr b sz a) (some (wz.1)) (nuC b sz a) ++ (tW E adn (va_up (va_up (va_up ivn 3 (nI n)) 4 (nI st)) 5 (nI mm)) hrn csn (sK K) ++ (tpW E tq fT ++ (strH E wz.1 wz.2.1 (nx b sz a - fr b sz a) wz.2.2 h9_20 z9_20)))) := hI
      have hp : r_125 = b2i (eqK wz.2.2 (nx b sz a - fr b sz a) 4) := hp
      have hr_125 := hp
      rcases b2i_cases hr_125 with ⟨c_125, rfl⟩ | ⟨c_125, rfl⟩
      · skip
        have c_125 : strEq wz.2.2 (nx b sz a - fr b sz a) 4 := eqK_t c_125
        exact absurd ((wOk_isW hw hk_4).mpr c_125) (hN 4 (by decide) (by decide))
      · skip
        have c_125 : ¬ strEq wz.2.2 (nx b sz a - fr b sz a) 4 := eqK_f c_125
        have hres : (stm b sz n st mm hrn csn K a) = .error (fr b sz a) := stm_none hN
        have hco9 := coE_er (b := b) (sz := sz) (a := a) hres
        refine lv_if_eq (tgt := 161) hxR hbR dX13_item_128 (by decide) (fun _ => ?_) (fun c => absurd c (by decide))
        refine lv_iload_n hxR hbR dX13_item_161 rfl (lv_at hl 0 rfl) ?_
        refine lv_tableOut (tgt := 330) hxR hbR dX13_item_162 (by decide) (by decide) ?_
        refine lv_aload_n hxR hbR dX13_item_330 rfl (lv_at hl 2 rfl) ?_
        have hI : wI E AR sR _ _ (tW E adn (va_up (va_up (va_up ivn 3 (nI n)) 4 (nI st)) 5 (nI mm)) hrn csn (sK K) ++ (tpW E tq fT ++ (strH E wz.1 wz.2.1 (nx b sz a - fr b sz a) wz.2.2 h9_20 z9_20 ++ (rdO E o tq sz (adn 10) (atC b sz a) (fr b sz a) (some (wz.1)) (nuC b sz a))))) := wI_pick ([rdO E o tq sz (adn 10) (atC b sz a) (fr b sz a) (some (wz.1)) (nuC b sz a), tW E adn (va_up (va_up (va_up ivn 3 (nI n)) 4 (nI st)) 5 (nI mm)) hrn csn (sK K), tpW E tq fT, strH E wz.1 wz.2.1 (nx b sz a - fr b sz a) wz.2.2 h9_20 z9_20]) [1, 2, 3, 0] 4 rfl (by decide) hI
        have hI := wI_w app3 hI
        refine kVR (n := 0) (As := []) (rest := []) (fun w => (tW E adn (va_up (va_up (va_up ivn 3 (nI n)) 4 (nI st)) 5 (nI mm)) hrn csn (sK K) ++ (tpW E tq fT ++ (strH E wz.1 wz.2.1 (nx b sz a - fr b sz a) wz.2.2 h9_20 z9_20))) ++ w) hxR hbR hmlR hts hown hK hA hl.1 (isCtx.pre _) hI (c13_wrong l E o tq (adn 10) (atC b sz a) (fr b sz a) (some (wz.1)) (nuC b sz a) sz ) (lw_V q1030 q1032 qs11 q107 q1033) ⟨rfl, by decide +kernel⟩ 0 12 rfl rfl rfl rfl (Nat.le_of_ble_eq_true rfl) (Nat.le_of_ble_eq_true rfl) ⟨by omega, by omega⟩ (Nat.le_of_ble_eq_true rfl) dX13_item_331 (fun u r_331 H locs hp hI hz => ?_)
        have hI := wI_w app3.symm hI
        have hI : wI E AR sR H locs (tW E adn (va_up (va_up (va_up ivn 3 (nI n)) 4 (nI st)) 5 (nI mm)) hrn csn (sK K) ++ (tpW E tq fT ++ (strH E wz.1 wz.2.1 (nx b sz a - fr b sz a) wz.2.2 h9_20 z9_20 ++ (rdO E o tq sz (adn 10) (atC b sz a) (fr b sz a) (some (wz.1)) (nuC b sz a) ++ ([(r_331, .inr (13, [.null, .null, .null, .null, .null, .int 0, .int (nI (fr b sz a))]))]))))) := hI
        have hI : wI E AR sR _ _ (tW E adn (va_up (va_up (va_up ivn 3 (nI n)) 4 (nI st)) 5 (nI mm)) hrn csn (sK K) ++ (strH E wz.1 wz.2.1 (nx b sz a - fr b sz a) wz.2.2 h9_20 z9_20 ++ (rdO E o tq sz (adn 10) (atC b sz a) (fr b sz a) (some (wz.1)) (nuC b sz a) ++ (tpW E tq fT ++ ([(r_331, .inr (13, [.null, .null, .null, .null, .null, .int 0, .int (nI (fr b sz a))]))]))))) := wI_pick ([tW E adn (va_up (va_up (va_up ivn 3 (nI n)) 4 (nI st)) 5 (nI mm)) hrn csn (sK K), tpW E tq fT, strH E wz.1 wz.2.1 (nx b sz a - fr b sz a) wz.2.2 h9_20 z9_20, rdO E o tq sz (adn 10) (atC b sz a) (fr b sz a) (some (wz.1)) (nuC b sz a), [(r_331, .inr (13, [.null, .null, .null, .null, .null, .int 0, .int (nI (fr b sz a))]))]]) [0, 2, 3, 1, 4] 5 rfl (by decide) hI
        have hI := wI_dropL hI
        have hI := wI_dropL hI
        have hI := wI_dropL hI
        have hI : wI E AR sR _ _ (tpW E tq fT ++ ([(r_331, .inr (13, [.null, .null, .null, .null, .null, .int 0, .int (nI (fr b sz a))]))])) := hI
        refine vx_athrow hxR hbR dX13_item_334 ?_
        obtain ⟨ce_334, hq1, hq2, hq3⟩ := wI_thrown hK hI (ci := 13) (nm := "ThreeStrangers$Fault") rfl rfl (q0 := (1 + 0)) (he_r (Nat.le_of_ble_eq_true rfl) (Nat.le_of_ble_eq_true rfl) rfl)
        exact hthr (fr b sz a) _ _ _ _ _ _ _ _ _ _ hq1 hq2 hq3 hI ⟨rfl, hres⟩ (by omega) (by omega)
    have hres : (stm b sz n st mm hrn csn K a) = .error (fr b sz a) := stm_none hN
    have hco9 := coE_er (b := b) (sz := sz) (a := a) hres
    refine lv_lookup (off := 138) (tgt := 161) hxR hbR dX13_item_23 (by decide) (lk6 ck_0 ck_1 ck_2 ck_3 ck_4 ck_5) (by decide) ?_
    refine lv_iload_n hxR hbR dX13_item_161 rfl (lv_at hl 0 rfl) ?_
    refine lv_tableOut (tgt := 330) hxR hbR dX13_item_162 (by decide) (by decide) ?_
    refine lv_aload_n hxR hbR dX13_item_330 rfl (lv_at hl 2 rfl) ?_
    have hI : wI E AR sR _ _ (tW E adn (va_up (va_up (va_up ivn 3 (nI n)) 4 (nI st)) 5 (nI mm)) hrn csn (sK K) ++ (tpW E tq fT ++ (strH E wz.1 wz.2.1 (nx b sz a - fr b sz a) wz.2.2 h9_20 z9_20 ++ (rdO E o tq sz (adn 10) (atC b sz a) (fr b sz a) (some (wz.1)) (nuC b sz a))))) := wI_pick ([rdO E o tq sz (adn 10) (atC b sz a) (fr b sz a) (some (wz.1)) (nuC b sz a), tW E adn (va_up (va_up (va_up ivn 3 (nI n)) 4 (nI st)) 5 (nI mm)) hrn csn (sK K), tpW E tq fT, strH E wz.1 wz.2.1 (nx b sz a - fr b sz a) wz.2.2 h9_20 z9_20]) [1, 2, 3, 0] 4 rfl (by decide) hI
    have hI := wI_w app3 hI
    refine kVR (n := 0) (As := []) (rest := []) (fun w => (tW E adn (va_up (va_up (va_up ivn 3 (nI n)) 4 (nI st)) 5 (nI mm)) hrn csn (sK K) ++ (tpW E tq fT ++ (strH E wz.1 wz.2.1 (nx b sz a - fr b sz a) wz.2.2 h9_20 z9_20))) ++ w) hxR hbR hmlR hts hown hK hA hl.1 (isCtx.pre _) hI (c13_wrong l E o tq (adn 10) (atC b sz a) (fr b sz a) (some (wz.1)) (nuC b sz a) sz ) (lw_V q1030 q1032 qs11 q107 q1033) ⟨rfl, by decide +kernel⟩ 0 12 rfl rfl rfl rfl (Nat.le_of_ble_eq_true rfl) (Nat.le_of_ble_eq_true rfl) ⟨by omega, by omega⟩ (Nat.le_of_ble_eq_true rfl) dX13_item_331 (fun u r_331 H locs hp hI hz => ?_)
    have hI := wI_w app3.symm hI
    have hI : wI E AR sR H locs (tW E adn (va_up (va_up (va_up ivn 3 (nI n)) 4 (nI st)) 5 (nI mm)) hrn csn (sK K) ++ (tpW E tq fT ++ (strH E wz.1 wz.2.1 (nx b sz a - fr b sz a) wz.2.2 h9_20 z9_20 ++ (rdO E o tq sz (adn 10) (atC b sz a) (fr b sz a) (some (wz.1)) (nuC b sz a) ++ ([(r_331, .inr (13, [.null, .null, .null, .null, .null, .int 0, .int (nI (fr b sz a))]))]))))) := hI
    have hI : wI E AR sR _ _ (tW E adn (va_up (va_up (va_up ivn 3 (nI n)) 4 (nI st)) 5 (nI mm)) hrn csn (sK K) ++ (strH E wz.1 wz.2.1 (nx b sz a - fr b sz a) wz.2.2 h9_20 z9_20 ++ (rdO E o tq sz (adn 10) (atC b sz a) (fr b sz a) (some (wz.1)) (nuC b sz a) ++ (tpW E tq fT ++ ([(r_331, .inr (13, [.null, .null, .null, .null, .null, .int 0, .int (nI (fr b sz a))]))]))))) := wI_pick ([tW E adn (va_up (va_up (va_up ivn 3 (nI n)) 4 (nI st)) 5 (nI mm)) hrn csn (sK K), tpW E tq fT, strH E wz.1 wz.2.1 (nx b sz a - fr b sz a) wz.2.2 h9_20 z9_20, rdO E o tq sz (adn 10) (atC b sz a) (fr b sz a) (some (wz.1)) (nuC b sz a), [(r_331, .inr (13, [.null, .null, .null, .null, .null, .int 0, .int (nI (fr b sz a))]))]]) [0, 2, 3, 1, 4] 5 rfl (by decide) hI
    have hI := wI_dropL hI
    have hI := wI_dropL hI
    have hI := wI_dropL hI
    have hI : wI E AR sR _ _ (tpW E tq fT ++ ([(r_331, .inr (13, [.null, .null, .null, .null, .null, .int 0, .int (nI (fr b sz a))]))])) := hI
    refine vx_athrow hxR hbR dX13_item_334 ?_
    obtain ⟨ce_334, hq1, hq2, hq3⟩ := wI_thrown hK hI (ci := 13) (nm := "ThreeStrangers$Fault") rfl rfl (q0 := (1 + 0)) (he_r (Nat.le_of_ble_eq_true rfl) (Nat.le_of_ble_eq_true rfl) rfl)
    exact hthr (fr b sz a) _ _ _ _ _ _ _ _ _ _ hq1 hq2 hq3 hI ⟨rfl, hres⟩ (by omega) (by omega)

set_option maxHeartbeats 8000000 in
theorem c13_item_1 (l : Launch) (E : En) (o : Nat) (tq : Nat) (adn : Nat → Nat) (ivn : Nat → Int32) (hrn : Nat → Int32) (csn : Nat → Int32) (fT : Nat → Int32)  (b : Nat → Nat) (sz a : Nat)(wz : WD) (K : Nat → Nat → Int32) (n st mm : Nat)  (hlt : l.stackTraces = false) (htp : tpOk fT b sz) (hsz : sz ≤ 250) (ha : a ≤ sz) (hw : wOk b sz a wz) (hn : ivn 3 = nI n) (hst : ivn 4 = nI st) (hmm : ivn 5 = nI mm) (hn7 : n ≤ 7) (hW : isW b sz a 1 = true) : XtV l E yX13_item (ws_ yX13_item cX13_item 5 none) 11 (4 * coE b sz a (stm b sz n st mm hrn csn K a)) (1024 * coE b sz a (stm b sz n st mm hrn csn K a)) [.ref o] (rdO E o tq sz (adn 10) (atC b sz a) (fr b sz a) (wdR E b sz a wz) (nuC b sz a) ++ (tW E adn ivn hrn csn (sK K) ++ (tpW E tq fT ++ (wdW E b sz a wz)))) (fun (u : Nat × Nat × Nat × (Nat → Int32) × (Nat → Int32) × (Nat → Nat → Int32) × Nat × WD) => (stm b sz n st mm hrn csn K a) = .ok ((u.1, u.2.1, u.2.2.1, u.2.2.2.1, u.2.2.2.2.1, u.2.2.2.2.2.1), u.2.2.2.2.2.2.1) ∧ wOk b sz u.2.2.2.2.2.2.1 u.2.2.2.2.2.2.2) (fun (u : Nat × Nat × Nat × (Nat → Int32) × (Nat → Int32) × (Nat → Nat → Int32) × Nat × WD) => rdO E o tq sz (adn 10) (atC b sz u.2.2.2.2.2.2.1) (fr b sz u.2.2.2.2.2.2.1) (wdR E b sz u.2.2.2.2.2.2.1 u.2.2.2.2.2.2.2) (nuC b sz u.2.2.2.2.2.2.1) ++ (tW E adn (va_up (va_up (va_up ivn 3 (nI u.1)) 4 (nI u.2.1)) 5 (nI u.2.2.1)) u.2.2.2.1 u.2.2.2.2.1 (sK u.2.2.2.2.2.1) ++ (tpW E tq fT ++ (wdW E b sz u.2.2.2.2.2.2.1 u.2.2.2.2.2.2.2)))) (fun (En : String) (u : Nat) => En = "ThreeStrangers$Fault" ∧ (stm b sz n st mm hrn csn K a) = .error u) (fun (u : Nat) (q : Nat) => tpW E tq fT ++ ([(q, .inr (13, [.null, .null, .null, .null, .null, .int 0, .int (nI u)]))])) := by
  have hna := nx_le (b := b) ha
  have hna2 := nx_le (b := b) hna
  have hna3 := nx_le (b := b) hna2
  have hg1 := nx2_le (b := b) ha
  have hg2 := nx2_le (b := b) hna
  have hna4 := nx_le (b := b) hna3
  have hna5 := nx_le (b := b) hna4
  have hna6 := nx_le (b := b) hna5
  have hg3 := nx2_le (b := b) hna2
  have hg4 := nx2_le (b := b) hna3
  have hg5 := nx2_le (b := b) hna4
  have hfa := fr_ge (b := b) (sz := sz) (a := a)
  have hfn := nx_ge (b := b) (sz := sz) (a := a)
  refine XtV.of (by decide +kernel) (Nat.le_of_ble_eq_true rfl) ?_
  intro pR eR sR mR aR bR tR cR AR ls QR hxR hbR hmlR hts hown hlk hnm hA hK hI hl hret hthr
  have hl : lv_has ls 5 [(0, .ref o)] := hl
  have hI := wI_w (ws' := rdO E o tq sz (adn 10) (atC b sz a) (fr b sz a) (wdR E b sz a wz) (nuC b sz a) ++ (tW E adn (va_up ivn 3 (nI n)) hrn csn (sK K) ++ (tpW E tq fT ++ (wdW E b sz a wz)))) (by rw [va_up_id (f := ivn) (k := 3) (v := nI n) hn]) hI
  have hI := wI_w (ws' := rdO E o tq sz (adn 10) (atC b sz a) (fr b sz a) (wdR E b sz a wz) (nuC b sz a) ++ (tW E adn (va_up (va_up ivn 3 (nI n)) 4 (nI st)) hrn csn (sK K) ++ (tpW E tq fT ++ (wdW E b sz a wz)))) (by rw [va_up_id (f := (va_up ivn 3 (nI n))) (k := 4) (v := nI st) (up_n (by decide) hst)]) hI
  have hI := wI_w (ws' := rdO E o tq sz (adn 10) (atC b sz a) (fr b sz a) (wdR E b sz a wz) (nuC b sz a) ++ (tW E adn (va_up (va_up (va_up ivn 3 (nI n)) 4 (nI st)) 5 (nI mm)) hrn csn (sK K) ++ (tpW E tq fT ++ (wdW E b sz a wz)))) (by rw [va_up_id (f := (va_up (va_up ivn 3 (nI n)) 4 (nI st))) (k := 5) (v := nI mm) (up_n (by decide) (up_n (by decide) hmm))]) hI
  refine lv_aload_n hxR hbR dX13_item_0 rfl (lv_at hl 0 rfl) ?_
  refine r_get hxR hbR hts hown hK hI okX13 (ci := 12) rfl 0 (he_l rfl) 5 (by decide) q810 rfl (v := va_rf (wdR E b sz a wz)) rfl dX13_item_1 ?_
  have hk_4 : kd b sz a = 1 := isW_k hW
  rw [wdR_1 hk_4]
  have hI := wI_w (ws' := rdO E o tq sz (adn 10) (atC b sz a) (fr b sz a) (some (wz.1)) (nuC b sz a) ++ (tW E adn (va_up (va_up (va_up ivn 3 (nI n)) 4 (nI st)) 5 (nI mm)) hrn csn (sK K) ++ (tpW E tq fT ++ (strH E wz.1 wz.2.1 (nx b sz a - fr b sz a) wz.2.2 0 0)))) (by rw [wdR_1 hk_4, wdW_1 hk_4]) hI
  refine lv_ifnonnull (tgt := 12) hxR hbR dX13_item_4 (by decide) ?_
  refine lv_aload_n hxR hbR dX13_item_12 rfl (lv_at hl 0 rfl) ?_
  refine r_get hxR hbR hts hown hK hI okX13 (ci := 12) rfl 0 (he_l rfl) 5 (by decide) q810 rfl (v := .ref wz.1) rfl dX13_item_13 ?_
  refine lv_astore_n (lv' := [(1, .ref wz.1), (0, .ref o)]) hxR hbR dX13_item_16 rfl hl (by decide) rfl (fun ls hl => ?_)
  refine lv_iconst (v := (-1)) hxR hbR dX13_item_17 (by decide) ?_
  refine lv_istore_n (lv' := [(2, .int (-1)), (1, .ref wz.1), (0, .ref o)]) hxR hbR dX13_item_18 rfl hl (by decide) rfl (fun ls hl => ?_)
  refine lv_aload_n hxR hbR dX13_item_19 rfl (lv_at hl 1 rfl) ?_
  have hwl := nx1_lt hk_4 ha
  have hI := wI_w app3 hI
  refine kVI (n := 0) (As := []) (rest := []) (fun w => (rdO E o tq sz (adn 10) (atC b sz a) (fr b sz a) (some (wz.1)) (nuC b sz a) ++ (tW E adn (va_up (va_up (va_up ivn 3 (nI n)) 4 (nI st)) 5 (nI mm)) hrn csn (sK K) ++ (tpW E tq fT))) ++ w) hxR hbR hmlR hts hown hK hA hl.1 (isCtx.pre _) hI (j4_hashCode l E wz.1 wz.2.1 (nx b sz a - fr b sz a) wz.2.2  (by omega) (by omega)) (lw_V q1053 q1054 q1055 q91 q1056) ⟨rfl, by decide +kernel⟩ 0 15 rfl rfl rfl rfl (Nat.le_of_ble_eq_true rfl) (Nat.le_of_ble_eq_true rfl) ⟨by omega, by omega⟩ (Nat.le_of_ble_eq_true rfl) dX13_item_20 (fun r_20 u H locs hp hI hz => ?_)
  obtain ⟨h9_20, z9_20⟩ := u
  have hI := wI_w app3.symm hI
  have hI : wI E AR sR H locs (rdO E o tq sz (adn 10) (atC b sz a) (fr b sz a) (some (wz.1)) (nuC b sz a) ++ (tW E adn (va_up (va_up (va_up ivn 3 (nI n)) 4 (nI st)) 5 (nI mm)) hrn csn (sK K) ++ (tpW E tq fT ++ (strH E wz.1 wz.2.1 (nx b sz a - fr b sz a) wz.2.2 h9_20 z9_20)))) := hI
  have hp : r_20 = hshF wz.2.2 (nx b sz a - fr b sz a) := hp
  have hr_20 := hp
  subst hr_20
  have ck_2 : hshF wz.2.2 (nx b sz a - fr b sz a) = (-991716523) := (hsh_K (i := 1) (by decide) ((wOk_isW hw hk_4).mp hW)).trans (by decide +kernel)
  refine lv_lookup (off := 57) (tgt := 80) hxR hbR dX13_item_23 (by decide) (by rw [ck_2]; decide) (by decide) ?_
  refine lv_aload_n hxR hbR dX13_item_80 rfl (lv_at hl 1 rfl) ?_
  refine va_ldcS hxR hbR hown (hK.2.2.2.1 ("ThreeStrangers$Reader", 105, "person", 1) (by decide)) dX13_item_81 ?_
  have hI := wI_w app3 hI
  refine kVI (n := 1) (As := [.ref (E.1.2.1 1)]) (rest := []) (fun w => (rdO E o tq sz (adn 10) (atC b sz a) (fr b sz a) (some (wz.1)) (nuC b sz a) ++ (tW E adn (va_up (va_up (va_up ivn 3 (nI n)) 4 (nI st)) 5 (nI mm)) hrn csn (sK K) ++ (tpW E tq fT))) ++ w) hxR hbR hmlR hts hown hK hA hl.1 (isCtx.pre _) hI (j4_equals l E wz.1 wz.2.1 (nx b sz a - fr b sz a) wz.2.2 h9_20 z9_20 1 (by decide) (by omega)) (lw_V q1107 q1108 q1109 q91 q1110) ⟨rfl, by decide +kernel⟩ 0 15 rfl rfl rfl rfl (Nat.le_of_ble_eq_true rfl) (Nat.le_of_ble_eq_true rfl) ⟨by omega, by omega⟩ (Nat.le_of_ble_eq_true rfl) dX13_item_83 (fun r_83 u H locs hp hI hz => ?_)
  have hI := wI_w app3.symm hI
  have hI : wI E AR sR H locs (rdO E o tq sz (adn 10) (atC b sz a) (fr b sz a) (some (wz.1)) (nuC b sz a) ++ (tW E adn (va_up (va_up (va_up ivn 3 (nI n)) 4 (nI st)) 5 (nI mm)) hrn csn (sK K) ++ (tpW E tq fT ++ (strH E wz.1 wz.2.1 (nx b sz a - fr b sz a) wz.2.2 h9_20 z9_20)))) := hI
  have hp : r_83 = b2i (eqK wz.2.2 (nx b sz a - fr b sz a) 1) := hp
  have hr_83 := hp
  rcases b2i_cases hr_83 with ⟨c_83, rfl⟩ | ⟨c_83, rfl⟩
  · skip
    have c_83 : strEq wz.2.2 (nx b sz a - fr b sz a) 1 := eqK_t c_83
    have hlen := isW_ln hW
    have hlen : nx b sz a - fr b sz a = 6 := hlen
    have hco : (nx b sz (nx b sz (nx b sz a)) - a) + (nx b sz (nx b sz (nx b sz (nx b sz a))) - nx b sz a) ≤ coE b sz a (stm b sz n st mm hrn csn K a) := coE_ge (fun v q e => by have h9 := co_w1 hn7 hW e; rw [h9]; exact Nat.le_refl _) (by omega)
    refine lv_if_eq (tgt := 161) hxR hbR dX13_item_86 (by decide) (fun c => absurd c (by decide)) (fun _ => ?_)
    refine lv_iconst (v := 0) hxR hbR dX13_item_89 (by decide) ?_
    refine lv_istore_n (lv' := [(2, .int 0), (1, .ref wz.1), (0, .ref o)]) hxR hbR dX13_item_90 rfl hl (by decide) rfl (fun ls hl => ?_)
    refine lv_goto (tgt := 161) hxR hbR dX13_item_91 (by decide) ?_
    refine lv_iload_n hxR hbR dX13_item_161 rfl (lv_at hl 0 rfl) ?_
    refine lv_tableIn (tgt := 200) hxR hbR dX13_item_162 (by decide) (by decide) rfl (by decide) ?_
    refine lv_aload_n hxR hbR dX13_item_200 rfl (lv_at hl 2 rfl) ?_
    have hI : wI E AR sR _ _ (strH E wz.1 wz.2.1 (nx b sz a - fr b sz a) wz.2.2 h9_20 z9_20 ++ (rdO E o tq sz (adn 10) (atC b sz a) (fr b sz a) (some (wz.1)) (nuC b sz a) ++ (tW E adn (va_up (va_up (va_up ivn 3 (nI n)) 4 (nI st)) 5 (nI mm)) hrn csn (sK K) ++ (tpW E tq fT)))) := wI_pick ([rdO E o tq sz (adn 10) (atC b sz a) (fr b sz a) (some (wz.1)) (nuC b sz a), tW E adn (va_up (va_up (va_up ivn 3 (nI n)) 4 (nI st)) 5 (nI mm)) hrn csn (sK K), tpW E tq fT, strH E wz.1 wz.2.1 (nx b sz a - fr b sz a) wz.2.2 h9_20 z9_20]) [3, 0, 1, 2] 4 rfl (by decide) hI
    have hI := wI_dropL hI
    have hI : wI E AR sR _ _ (rdO E o tq sz (adn 10) (atC b sz a) (fr b sz a) (some (wz.1)) (nuC b sz a) ++ (tW E adn (va_up (va_up (va_up ivn 3 (nI n)) 4 (nI st)) 5 (nI mm)) hrn csn (sK K) ++ (tpW E tq fT))) := hI
    have hI := wI_w (ws' := rdO E o tq sz (adn 10) (atC b sz a) (fr b sz a) (some (wz.1)) (nuC b sz a) ++ (tW E adn (va_up (va_up (va_up ivn 3 (nI n)) 4 (nI st)) 5 (nI mm)) hrn csn (sK K) ++ (tpW E tq fT ++ (([] : va_W))))) (by rw [List.append_nil]) hI
    refine kVVX (n := 0) (As := []) (rest := []) (fun w => w) hxR hbR hmlR hts hown hK hA hl.1 isCtx.id hI (c13_person l E o tq (some (wz.1)) adn (va_up (va_up (va_up ivn 3 (nI n)) 4 (nI st)) 5 (nI mm)) hrn csn fT b sz a K n hlt htp hsz ha (up_n (by decide) (up_n (by decide) va_up_s)) hn7 hk_4) (lw_V q1120 q1122 qs12 q107 q1123) ⟨rfl, by decide +kernel⟩ 0 12 rfl rfl (he_l rfl) rfl (Nat.le_of_ble_eq_true rfl) (Nat.le_of_ble_eq_true rfl) ⟨by omega, by omega⟩ (Nat.le_of_ble_eq_true rfl) dX13_item_201 (fun En ce_201 q_201 u H locs hX hI hz hq1 hq2 hq3 => ?_) (fun u H locs hp hI hz => ?_)
    · skip
      obtain ⟨f9_201, rfl⟩ : ∃ z, z = u := ⟨_, rfl⟩
      have hI : wI E AR sR H locs (tpW E tq fT ++ ([(q_201, .inr (13, [.null, .null, .null, .null, .null, .int 0, .int (nI f9_201)]))])) := hI
      have hX : En = "ThreeStrangers$Fault" ∧ perE b sz n a = .error f9_201 := hX
      obtain ⟨rfl, hok_201⟩ := hX
      exact hthr f9_201 _ _ _ _ _ _ _ _ _ _ hq1 hq2 hq3 hI ⟨rfl, (by rw [stm_w1 hn7 hW, hok_201])⟩ (by omega) (by omega)
    · skip
      obtain ⟨w2_201, rfl⟩ : ∃ z, z = u := ⟨_, rfl⟩
      have hI : wI E AR sR H locs (rdO E o tq sz (adn 10) (atC b sz (nx b sz (nx b sz (nx b sz a)))) (fr b sz (nx b sz (nx b sz (nx b sz a)))) (wdR E b sz (nx b sz (nx b sz (nx b sz a))) w2_201) (nuC b sz (nx b sz (nx b sz (nx b sz a)))) ++ (tW E adn (va_up (va_up (va_up (va_up ivn 3 (nI n)) 4 (nI st)) 5 (nI mm)) 3 (nI (n + 1))) (va_up hrn n (nI (fg b sz (nx b sz a)))) (va_up csn n (nI (fg b sz (nx b sz (nx b sz a))))) (sK (newK K n n)) ++ (tpW E tq fT ++ (wdW E b sz (nx b sz (nx b sz (nx b sz a))) w2_201)))) := hI
      have hI := wI_w (ws' := rdO E o tq sz (adn 10) (atC b sz (nx b sz (nx b sz (nx b sz a)))) (fr b sz (nx b sz (nx b sz (nx b sz a)))) (wdR E b sz (nx b sz (nx b sz (nx b sz a))) w2_201) (nuC b sz (nx b sz (nx b sz (nx b sz a)))) ++ (tW E adn (va_up (va_up (va_up ivn 3 (nI (n + 1))) 4 (nI st)) 5 (nI mm)) (va_up hrn n (nI (fg b sz (nx b sz a)))) (va_up csn n (nI (fg b sz (nx b sz (nx b sz a))))) (sK (newK K n n)) ++ (tpW E tq fT ++ (wdW E b sz (nx b sz (nx b sz (nx b sz a))) w2_201)))) (by rw [(show (va_up (va_up (va_up ivn 3 (nI (n + 1))) 4 (nI st)) 5 (nI mm)) = (va_up (va_up (va_up (va_up ivn 3 (nI n)) 4 (nI st)) 5 (nI mm)) 3 (nI (n + 1))) from ((up_s (by decide) (up_s (by decide) up_0))).symm)]) hI
      have hI : wI E AR sR H locs (rdO E o tq sz (adn 10) (atC b sz (nx b sz (nx b sz (nx b sz a)))) (fr b sz (nx b sz (nx b sz (nx b sz a)))) (wdR E b sz (nx b sz (nx b sz (nx b sz a))) w2_201) (nuC b sz (nx b sz (nx b sz (nx b sz a)))) ++ (tW E adn (va_up (va_up (va_up ivn 3 (nI (n + 1))) 4 (nI st)) 5 (nI mm)) (va_up hrn n (nI (fg b sz (nx b sz a)))) (va_up csn n (nI (fg b sz (nx b sz (nx b sz a))))) (sK (newK K n n)) ++ (tpW E tq fT ++ (wdW E b sz (nx b sz (nx b sz (nx b sz a))) w2_201)))) := hI
      have hp : perE b sz n a = .ok (fg b sz (nx b sz a), fg b sz (nx b sz (nx b sz a)), (nx b sz (nx b sz (nx b sz a)))) ∧ wOk b sz (nx b sz (nx b sz (nx b sz a))) w2_201 ∧ n < 7 := hp
      obtain ⟨hok_201, hw_201, hn6_201⟩ := hp
      refine lv_goto (tgt := 335) hxR hbR dX13_item_204 (by decide) ?_
      exact hret (n + 1, st, mm, va_up hrn n (nI (fg b sz (nx b sz a))), va_up csn n (nI (fg b sz (nx b sz (nx b sz a)))), (newK K n n), (nx b sz (nx b sz (nx b sz a))), w2_201) _ _ _ _ _ _ dX13_item_335 hI (by show (stm b sz n st mm hrn csn K a) = .ok (((n + 1), st, mm, (va_up hrn n (nI (fg b sz (nx b sz a)))), (va_up csn n (nI (fg b sz (nx b sz (nx b sz a))))), (newK K n n)), (nx b sz (nx b sz (nx b sz a)))) ∧ wOk b sz (nx b sz (nx b sz (nx b sz a))) w2_201; exact ⟨by rw [stm_w1 hn7 hW, hok_201], hw_201⟩) (by omega) (by omega)
  · skip
    have c_83 : ¬ strEq wz.2.2 (nx b sz a - fr b sz a) 1 := eqK_f c_83
    exact absurd ((wOk_isW hw hk_4).mp hW) c_83

set_option maxHeartbeats 8000000 in
theorem c13_item_2 (l : Launch) (E : En) (o : Nat) (tq : Nat) (adn : Nat → Nat) (ivn : Nat → Int32) (hrn : Nat → Int32) (csn : Nat → Int32) (fT : Nat → Int32)  (b : Nat → Nat) (sz a : Nat)(wz : WD) (K : Nat → Nat → Int32) (n st mm : Nat)  (hlt : l.stackTraces = false) (htp : tpOk fT b sz) (hsz : sz ≤ 250) (ha : a ≤ sz) (hw : wOk b sz a wz) (hn : ivn 3 = nI n) (hst : ivn 4 = nI st) (hmm : ivn 5 = nI mm) (hn7 : n ≤ 7) (hW : isW b sz a 2 = true) : XtV l E yX13_item (ws_ yX13_item cX13_item 5 none) 11 (4 * coE b sz a (stm b sz n st mm hrn csn K a)) (1024 * coE b sz a (stm b sz n st mm hrn csn K a)) [.ref o] (rdO E o tq sz (adn 10) (atC b sz a) (fr b sz a) (wdR E b sz a wz) (nuC b sz a) ++ (tW E adn ivn hrn csn (sK K) ++ (tpW E tq fT ++ (wdW E b sz a wz)))) (fun (u : Nat × Nat × Nat × (Nat → Int32) × (Nat → Int32) × (Nat → Nat → Int32) × Nat × WD) => (stm b sz n st mm hrn csn K a) = .ok ((u.1, u.2.1, u.2.2.1, u.2.2.2.1, u.2.2.2.2.1, u.2.2.2.2.2.1), u.2.2.2.2.2.2.1) ∧ wOk b sz u.2.2.2.2.2.2.1 u.2.2.2.2.2.2.2) (fun (u : Nat × Nat × Nat × (Nat → Int32) × (Nat → Int32) × (Nat → Nat → Int32) × Nat × WD) => rdO E o tq sz (adn 10) (atC b sz u.2.2.2.2.2.2.1) (fr b sz u.2.2.2.2.2.2.1) (wdR E b sz u.2.2.2.2.2.2.1 u.2.2.2.2.2.2.2) (nuC b sz u.2.2.2.2.2.2.1) ++ (tW E adn (va_up (va_up (va_up ivn 3 (nI u.1)) 4 (nI u.2.1)) 5 (nI u.2.2.1)) u.2.2.2.1 u.2.2.2.2.1 (sK u.2.2.2.2.2.1) ++ (tpW E tq fT ++ (wdW E b sz u.2.2.2.2.2.2.1 u.2.2.2.2.2.2.2)))) (fun (En : String) (u : Nat) => En = "ThreeStrangers$Fault" ∧ (stm b sz n st mm hrn csn K a) = .error u) (fun (u : Nat) (q : Nat) => tpW E tq fT ++ ([(q, .inr (13, [.null, .null, .null, .null, .null, .int 0, .int (nI u)]))])) := by
  have hna := nx_le (b := b) ha
  have hna2 := nx_le (b := b) hna
  have hna3 := nx_le (b := b) hna2
  have hg1 := nx2_le (b := b) ha
  have hg2 := nx2_le (b := b) hna
  have hna4 := nx_le (b := b) hna3
  have hna5 := nx_le (b := b) hna4
  have hna6 := nx_le (b := b) hna5
  have hg3 := nx2_le (b := b) hna2
  have hg4 := nx2_le (b := b) hna3
  have hg5 := nx2_le (b := b) hna4
  have hfa := fr_ge (b := b) (sz := sz) (a := a)
  have hfn := nx_ge (b := b) (sz := sz) (a := a)
  refine XtV.of (by decide +kernel) (Nat.le_of_ble_eq_true rfl) ?_
  intro pR eR sR mR aR bR tR cR AR ls QR hxR hbR hmlR hts hown hlk hnm hA hK hI hl hret hthr
  have hl : lv_has ls 5 [(0, .ref o)] := hl
  have hI := wI_w (ws' := rdO E o tq sz (adn 10) (atC b sz a) (fr b sz a) (wdR E b sz a wz) (nuC b sz a) ++ (tW E adn (va_up ivn 3 (nI n)) hrn csn (sK K) ++ (tpW E tq fT ++ (wdW E b sz a wz)))) (by rw [va_up_id (f := ivn) (k := 3) (v := nI n) hn]) hI
  have hI := wI_w (ws' := rdO E o tq sz (adn 10) (atC b sz a) (fr b sz a) (wdR E b sz a wz) (nuC b sz a) ++ (tW E adn (va_up (va_up ivn 3 (nI n)) 4 (nI st)) hrn csn (sK K) ++ (tpW E tq fT ++ (wdW E b sz a wz)))) (by rw [va_up_id (f := (va_up ivn 3 (nI n))) (k := 4) (v := nI st) (up_n (by decide) hst)]) hI
  have hI := wI_w (ws' := rdO E o tq sz (adn 10) (atC b sz a) (fr b sz a) (wdR E b sz a wz) (nuC b sz a) ++ (tW E adn (va_up (va_up (va_up ivn 3 (nI n)) 4 (nI st)) 5 (nI mm)) hrn csn (sK K) ++ (tpW E tq fT ++ (wdW E b sz a wz)))) (by rw [va_up_id (f := (va_up (va_up ivn 3 (nI n)) 4 (nI st))) (k := 5) (v := nI mm) (up_n (by decide) (up_n (by decide) hmm))]) hI
  refine lv_aload_n hxR hbR dX13_item_0 rfl (lv_at hl 0 rfl) ?_
  refine r_get hxR hbR hts hown hK hI okX13 (ci := 12) rfl 0 (he_l rfl) 5 (by decide) q810 rfl (v := va_rf (wdR E b sz a wz)) rfl dX13_item_1 ?_
  have hk_4 : kd b sz a = 1 := isW_k hW
  rw [wdR_1 hk_4]
  have hI := wI_w (ws' := rdO E o tq sz (adn 10) (atC b sz a) (fr b sz a) (some (wz.1)) (nuC b sz a) ++ (tW E adn (va_up (va_up (va_up ivn 3 (nI n)) 4 (nI st)) 5 (nI mm)) hrn csn (sK K) ++ (tpW E tq fT ++ (strH E wz.1 wz.2.1 (nx b sz a - fr b sz a) wz.2.2 0 0)))) (by rw [wdR_1 hk_4, wdW_1 hk_4]) hI
  refine lv_ifnonnull (tgt := 12) hxR hbR dX13_item_4 (by decide) ?_
  refine lv_aload_n hxR hbR dX13_item_12 rfl (lv_at hl 0 rfl) ?_
  refine r_get hxR hbR hts hown hK hI okX13 (ci := 12) rfl 0 (he_l rfl) 5 (by decide) q810 rfl (v := .ref wz.1) rfl dX13_item_13 ?_
  refine lv_astore_n (lv' := [(1, .ref wz.1), (0, .ref o)]) hxR hbR dX13_item_16 rfl hl (by decide) rfl (fun ls hl => ?_)
  refine lv_iconst (v := (-1)) hxR hbR dX13_item_17 (by decide) ?_
  refine lv_istore_n (lv' := [(2, .int (-1)), (1, .ref wz.1), (0, .ref o)]) hxR hbR dX13_item_18 rfl hl (by decide) rfl (fun ls hl => ?_)
  refine lv_aload_n hxR hbR dX13_item_19 rfl (lv_at hl 1 rfl) ?_
  have hwl := nx1_lt hk_4 ha
  have hI := wI_w app3 hI
  refine kVI (n := 0) (As := []) (rest := []) (fun w => (rdO E o tq sz (adn 10) (atC b sz a) (fr b sz a) (some (wz.1)) (nuC b sz a) ++ (tW E adn (va_up (va_up (va_up ivn 3 (nI n)) 4 (nI st)) 5 (nI mm)) hrn csn (sK K) ++ (tpW E tq fT))) ++ w) hxR hbR hmlR hts hown hK hA hl.1 (isCtx.pre _) hI (j4_hashCode l E wz.1 wz.2.1 (nx b sz a - fr b sz a) wz.2.2  (by omega) (by omega)) (lw_V q1053 q1054 q1055 q91 q1056) ⟨rfl, by decide +kernel⟩ 0 15 rfl rfl rfl rfl (Nat.le_of_ble_eq_true rfl) (Nat.le_of_ble_eq_true rfl) ⟨by omega, by omega⟩ (Nat.le_of_ble_eq_true rfl) dX13_item_20 (fun r_20 u H locs hp hI hz => ?_)
  obtain ⟨h9_20, z9_20⟩ := u
  have hI := wI_w app3.symm hI
  have hI : wI E AR sR H locs (rdO E o tq sz (adn 10) (atC b sz a) (fr b sz a) (some (wz.1)) (nuC b sz a) ++ (tW E adn (va_up (va_up (va_up ivn 3 (nI n)) 4 (nI st)) 5 (nI mm)) hrn csn (sK K) ++ (tpW E tq fT ++ (strH E wz.1 wz.2.1 (nx b sz a - fr b sz a) wz.2.2 h9_20 z9_20)))) := hI
  have hp : r_20 = hshF wz.2.2 (nx b sz a - fr b sz a) := hp
  have hr_20 := hp
  subst hr_20
  have ck_4 : hshF wz.2.2 (nx b sz a - fr b sz a) = 3296907 := (hsh_K (i := 2) (by decide) ((wOk_isW hw hk_4).mp hW)).trans (by decide +kernel)
  refine lv_lookup (off := 71) (tgt := 94) hxR hbR dX13_item_23 (by decide) (by rw [ck_4]; decide) (by decide) ?_
  refine lv_aload_n hxR hbR dX13_item_94 rfl (lv_at hl 1 rfl) ?_
  refine va_ldcS hxR hbR hown (hK.2.2.2.1 ("ThreeStrangers$Reader", 107, "know", 2) (by decide)) dX13_item_95 ?_
  have hI := wI_w app3 hI
  refine kVI (n := 1) (As := [.ref (E.1.2.1 2)]) (rest := []) (fun w => (rdO E o tq sz (adn 10) (atC b sz a) (fr b sz a) (some (wz.1)) (nuC b sz a) ++ (tW E adn (va_up (va_up (va_up ivn 3 (nI n)) 4 (nI st)) 5 (nI mm)) hrn csn (sK K) ++ (tpW E tq fT))) ++ w) hxR hbR hmlR hts hown hK hA hl.1 (isCtx.pre _) hI (j4_equals l E wz.1 wz.2.1 (nx b sz a - fr b sz a) wz.2.2 h9_20 z9_20 2 (by decide) (by omega)) (lw_V q1107 q1108 q1109 q91 q1110) ⟨rfl, by decide +kernel⟩ 0 15 rfl rfl rfl rfl (Nat.le_of_ble_eq_true rfl) (Nat.le_of_ble_eq_true rfl) ⟨by omega, by omega⟩ (Nat.le_of_ble_eq_true rfl) dX13_item_97 (fun r_97 u H locs hp hI hz => ?_)
  have hI := wI_w app3.symm hI
  have hI : wI E AR sR H locs (rdO E o tq sz (adn 10) (atC b sz a) (fr b sz a) (some (wz.1)) (nuC b sz a) ++ (tW E adn (va_up (va_up (va_up ivn 3 (nI n)) 4 (nI st)) 5 (nI mm)) hrn csn (sK K) ++ (tpW E tq fT ++ (strH E wz.1 wz.2.1 (nx b sz a - fr b sz a) wz.2.2 h9_20 z9_20)))) := hI
  have hp : r_97 = b2i (eqK wz.2.2 (nx b sz a - fr b sz a) 2) := hp
  have hr_97 := hp
  rcases b2i_cases hr_97 with ⟨c_97, rfl⟩ | ⟨c_97, rfl⟩
  · skip
    have c_97 : strEq wz.2.2 (nx b sz a - fr b sz a) 2 := eqK_t c_97
    have hlen := isW_ln hW
    have hlen : nx b sz a - fr b sz a = 4 := hlen
    have hco : (nx b sz (nx b sz (nx b sz a)) - a) + (nx b sz (nx b sz (nx b sz (nx b sz a))) - nx b sz a) ≤ coE b sz a (stm b sz n st mm hrn csn K a) := coE_ge (fun v q e => by rcases co_w2 hW e with ⟨_, h9⟩ | ⟨_, h9⟩; (rw [h9]; exact Nat.le_refl _); (rw [h9]; omega)) (by omega)
    refine lv_if_eq (tgt := 161) hxR hbR dX13_item_100 (by decide) (fun c => absurd c (by decide)) (fun _ => ?_)
    refine lv_iconst (v := 1) hxR hbR dX13_item_103 (by decide) ?_
    refine lv_istore_n (lv' := [(2, .int 1), (1, .ref wz.1), (0, .ref o)]) hxR hbR dX13_item_104 rfl hl (by decide) rfl (fun ls hl => ?_)
    refine lv_goto (tgt := 161) hxR hbR dX13_item_105 (by decide) ?_
    refine lv_iload_n hxR hbR dX13_item_161 rfl (lv_at hl 0 rfl) ?_
    refine lv_tableIn (tgt := 207) hxR hbR dX13_item_162 (by decide) (by decide) rfl (by decide) ?_
    refine lv_aload_n hxR hbR dX13_item_207 rfl (lv_at hl 2 rfl) ?_
    have hat : atC b sz a = nx b sz a := atC_k hk_4 (by decide)
    have hI : wI E AR sR _ _ (strH E wz.1 wz.2.1 (nx b sz a - fr b sz a) wz.2.2 h9_20 z9_20 ++ (rdO E o tq sz (adn 10) (atC b sz a) (fr b sz a) (some (wz.1)) (nuC b sz a) ++ (tW E adn (va_up (va_up (va_up ivn 3 (nI n)) 4 (nI st)) 5 (nI mm)) hrn csn (sK K) ++ (tpW E tq fT)))) := wI_pick ([rdO E o tq sz (adn 10) (atC b sz a) (fr b sz a) (some (wz.1)) (nuC b sz a), tW E adn (va_up (va_up (va_up ivn 3 (nI n)) 4 (nI st)) 5 (nI mm)) hrn csn (sK K), tpW E tq fT, strH E wz.1 wz.2.1 (nx b sz a - fr b sz a) wz.2.2 h9_20 z9_20]) [3, 0, 1, 2] 4 rfl (by decide) hI
    have hI := wI_dropL hI
    have hI : wI E AR sR _ _ (rdO E o tq sz (adn 10) (atC b sz a) (fr b sz a) (some (wz.1)) (nuC b sz a) ++ (tW E adn (va_up (va_up (va_up ivn 3 (nI n)) 4 (nI st)) 5 (nI mm)) hrn csn (sK K) ++ (tpW E tq fT))) := hI
    have hI := wI_w (ws' := rdO E o tq sz (adn 10) (nx b sz a) (fr b sz a) (some (wz.1)) (nuC b sz a) ++ (tW E adn (va_up (va_up (va_up ivn 3 (nI n)) 4 (nI st)) 5 (nI mm)) hrn csn (sK K) ++ (tpW E tq fT ++ (([] : va_W))))) (by rw [hat, List.append_nil]) hI
    have hI : wI E AR sR _ _ (rdO E o tq sz (adn 10) (nx b sz a) (fr b sz a) (some (wz.1)) (nuC b sz a) ++ (tpW E tq fT ++ (([] : va_W) ++ (tW E adn (va_up (va_up (va_up ivn 3 (nI n)) 4 (nI st)) 5 (nI mm)) hrn csn (sK K))))) := wI_pick ([rdO E o tq sz (adn 10) (nx b sz a) (fr b sz a) (some (wz.1)) (nuC b sz a), tW E adn (va_up (va_up (va_up ivn 3 (nI n)) 4 (nI st)) 5 (nI mm)) hrn csn (sK K), tpW E tq fT, ([] : va_W)]) [0, 2, 3, 1] 4 rfl (by decide) hI
    have hI := wI_w app3 hI
    refine kVV (n := 0) (As := []) (rest := []) (fun w => w ++ (tW E adn (va_up (va_up (va_up ivn 3 (nI n)) 4 (nI st)) 5 (nI mm)) hrn csn (sK K))) hxR hbR hmlR hts hown hK hA hl.1 (isCtx.suf _) hI (c13_next l E o tq (adn 10) (fr b sz a) (some (wz.1)) (nuC b sz a) fT b sz (nx b sz a) htp hsz hna) (lw_V q831 q833 qs8 q107 q834) ⟨rfl, by decide +kernel⟩ 0 12 rfl rfl (he_l rfl) rfl (Nat.le_of_ble_eq_true rfl) (Nat.le_of_ble_eq_true rfl) ⟨by omega, by omega⟩ (Nat.le_of_ble_eq_true rfl) dX13_item_208 (fun u H locs hp hI hz => ?_)
    obtain ⟨w_208, rfl⟩ : ∃ z, z = u := ⟨_, rfl⟩
    have hI := wI_w app3.symm hI
    have hI : wI E AR sR H locs (rdO E o tq sz (adn 10) (atC b sz (nx b sz a)) (fr b sz (nx b sz a)) (wdR E b sz (nx b sz a) w_208) (nuC b sz (nx b sz a)) ++ (tpW E tq fT ++ (wdW E b sz (nx b sz a) w_208 ++ (tW E adn (va_up (va_up (va_up ivn 3 (nI n)) 4 (nI st)) 5 (nI mm)) hrn csn (sK K))))) := hI
    have hI : wI E AR sR _ _ (rdO E o tq sz (adn 10) (atC b sz (nx b sz a)) (fr b sz (nx b sz a)) (wdR E b sz (nx b sz a) w_208) (nuC b sz (nx b sz a)) ++ (tW E adn (va_up (va_up (va_up ivn 3 (nI n)) 4 (nI st)) 5 (nI mm)) hrn csn (sK K) ++ (tpW E tq fT ++ (wdW E b sz (nx b sz a) w_208)))) := wI_pick ([rdO E o tq sz (adn 10) (atC b sz (nx b sz a)) (fr b sz (nx b sz a)) (wdR E b sz (nx b sz a) w_208) (nuC b sz (nx b sz a)), tpW E tq fT, wdW E b sz (nx b sz a) w_208, tW E adn (va_up (va_up (va_up ivn 3 (nI n)) 4 (nI st)) 5 (nI mm)) hrn csn (sK K)]) [0, 3, 1, 2] 4 rfl (by decide) hI
    have hp : wOk b sz (nx b sz a) w_208 := hp
    have hw_208 := hp
    refine lv_aload_n hxR hbR dX13_item_211 rfl (lv_at hl 2 rfl) ?_
    refine kVIX (n := 0) (As := []) (rest := []) (fun w => w) hxR hbR hmlR hts hown hK hA hl.1 isCtx.id hI (c13_one l E o tq adn (va_up (va_up (va_up ivn 3 (nI n)) 4 (nI st)) 5 (nI mm)) hrn csn fT b sz (nx b sz a) w_208 K n hlt htp hsz hna hw_208 (up_n (by decide) (up_n (by decide) va_up_s)) hn7) (lw_V q1129 q1131 qs14 q107 q1132) ⟨rfl, by decide +kernel⟩ 0 12 rfl rfl (he_l rfl) rfl (Nat.le_of_ble_eq_true rfl) (Nat.le_of_ble_eq_true rfl) ⟨by omega, by omega⟩ (Nat.le_of_ble_eq_true rfl) dX13_item_212 (fun En ce_212 q_212 u H locs hX hI hz hq1 hq2 hq3 => ?_) (fun r_212 u H locs hp hI hz => ?_)
    · skip
      have hI : wI E AR sR H locs (tpW E tq fT ++ ([(q_212, .inr (13, [.null, .null, .null, .null, .null, .int 0, .int (nI (fr b sz (nx b sz a)))]))])) := hI
      have hX : En = "ThreeStrangers$Fault" ∧ numE b sz (nx b sz a) 0 ((n : Int) - 1) = .error (fr b sz (nx b sz a)) := hX
      obtain ⟨rfl, hok_212⟩ := hX
      exact hthr (fr b sz (nx b sz a)) _ _ _ _ _ _ _ _ _ _ hq1 hq2 hq3 hI ⟨rfl, (by rw [stm_w2 hW, knoE_1 (twoE_1 hok_212)])⟩ (by omega) (by omega)
    · skip
      obtain ⟨w2_212, rfl⟩ : ∃ z, z = u := ⟨_, rfl⟩
      have hI : wI E AR sR H locs (rdO E o tq sz (adn 10) (atC b sz (nx b sz (nx b sz a))) (fr b sz (nx b sz (nx b sz a))) (wdR E b sz (nx b sz (nx b sz a)) w2_212) (nuC b sz (nx b sz (nx b sz a))) ++ (tW E adn (va_up (va_up (va_up ivn 3 (nI n)) 4 (nI st)) 5 (nI mm)) hrn csn (sK K) ++ (tpW E tq fT ++ (wdW E b sz (nx b sz (nx b sz a)) w2_212)))) := hI
      have hp : r_212 = nI (fg b sz (nx b sz a)) ∧ numE b sz (nx b sz a) 0 ((n : Int) - 1) = .ok (fg b sz (nx b sz a), nx b sz (nx b sz a)) ∧ wOk b sz (nx b sz (nx b sz a)) w2_212 := hp
      obtain ⟨rfl, hok_212, hw_212⟩ := hp
      have hx1 := numE_ok hok_212
      have hgt1 := nx_gt (b := b) (a := nx b sz a) (by rw [hx1.1]; decide) hna
      refine lv_istore_n (lv' := [(3, .int (nI (fg b sz (nx b sz a)))), (2, .int 1), (1, .ref wz.1), (0, .ref o)]) hxR hbR dX13_item_215 rfl hl (by decide) rfl (fun ls hl => ?_)
      refine lv_aload_n hxR hbR dX13_item_216 rfl (lv_at hl 3 rfl) ?_
      refine lv_iload_n hxR hbR dX13_item_217 rfl (lv_at hl 0 rfl) ?_
      refine kVIX (n := 1) (As := [.int (nI (fg b sz (nx b sz a)))]) (rest := []) (fun w => w) hxR hbR hmlR hts hown hK hA hl.1 isCtx.id hI (c13_other l E o tq adn (va_up (va_up (va_up ivn 3 (nI n)) 4 (nI st)) 5 (nI mm)) hrn csn fT b sz (nx b sz (nx b sz a)) w2_212 K n (fg b sz (nx b sz a)) hlt htp hsz hna2 hw_212 (up_n (by decide) (up_n (by decide) va_up_s)) hn7 (by omega)) (lw_V q1133 q1135 qs15 q107 q1136) ⟨rfl, by decide +kernel⟩ 0 12 rfl rfl (he_l rfl) rfl (Nat.le_of_ble_eq_true rfl) (Nat.le_of_ble_eq_true rfl) ⟨by omega, by omega⟩ (Nat.le_of_ble_eq_true rfl) dX13_item_218 (fun En ce_218 q_218 u H locs hX hI hz hq1 hq2 hq3 => ?_) (fun r_218 u H locs hp hI hz => ?_)
      · skip
        have hI : wI E AR sR H locs (tpW E tq fT ++ ([(q_218, .inr (13, [.null, .null, .null, .null, .null, .int 0, .int (nI (fr b sz (nx b sz (nx b sz a))))]))])) := hI
        have hX : En = "ThreeStrangers$Fault" ∧ ((kd b sz (nx b sz (nx b sz a)) = 2 ∧ fg b sz (nx b sz (nx b sz a)) = (fg b sz (nx b sz a))) ∨ (¬ (kd b sz (nx b sz (nx b sz a)) = 2 ∧ fg b sz (nx b sz (nx b sz a)) = (fg b sz (nx b sz a))) ∧ numE b sz (nx b sz (nx b sz a)) 0 ((n : Int) - 1) = .error (fr b sz (nx b sz (nx b sz a))))) := hX
        obtain ⟨rfl, hok_218⟩ := hX
        have hok9 : knoE b sz n K a = .error (fr b sz (nx b sz (nx b sz a))) := by
          rcases hok_218 with h9 | ⟨h9, h8⟩
          · exact knoE_1 (twoE_2 hok_212 h9.1 h9.2)
          · exact knoE_1 (twoE_3 hok_212 h9 h8)
        exact hthr (fr b sz (nx b sz (nx b sz a))) _ _ _ _ _ _ _ _ _ _ hq1 hq2 hq3 hI ⟨rfl, (by rw [stm_w2 hW, hok9])⟩ (by omega) (by omega)
      · skip
        obtain ⟨w2_218, rfl⟩ : ∃ z, z = u := ⟨_, rfl⟩
        have hI : wI E AR sR H locs (rdO E o tq sz (adn 10) (atC b sz (nx b sz (nx b sz (nx b sz a)))) (fr b sz (nx b sz (nx b sz (nx b sz a)))) (wdR E b sz (nx b sz (nx b sz (nx b sz a))) w2_218) (nuC b sz (nx b sz (nx b sz (nx b sz a)))) ++ (tW E adn (va_up (va_up (va_up ivn 3 (nI n)) 4 (nI st)) 5 (nI mm)) hrn csn (sK K) ++ (tpW E tq fT ++ (wdW E b sz (nx b sz (nx b sz (nx b sz a))) w2_218)))) := hI
        have hp : r_218 = nI (fg b sz (nx b sz (nx b sz a))) ∧ ¬ (kd b sz (nx b sz (nx b sz a)) = 2 ∧ fg b sz (nx b sz (nx b sz a)) = (fg b sz (nx b sz a))) ∧ numE b sz (nx b sz (nx b sz a)) 0 ((n : Int) - 1) = .ok (fg b sz (nx b sz (nx b sz a)), nx b sz (nx b sz (nx b sz a))) ∧ wOk b sz (nx b sz (nx b sz (nx b sz a))) w2_218 := hp
        obtain ⟨rfl, hne_218, hok_218, hw_218⟩ := hp
        have hx2 := numE_ok hok_218
        have hgt2 := nx_gt (b := b) (a := nx b sz (nx b sz a)) (by rw [hx2.1]; decide) hna2
        refine lv_istore (lv' := [(4, .int (nI (fg b sz (nx b sz (nx b sz a))))), (3, .int (nI (fg b sz (nx b sz a)))), (2, .int 1), (1, .ref wz.1), (0, .ref o)]) hxR hbR dX13_item_221 hl (by decide) rfl (fun ls hl => ?_)
        refine lv_aload_n hxR hbR dX13_item_223 rfl (lv_at hl 4 rfl) ?_
        refine r_get hxR hbR hts hown hK hI okX13 (ci := 12) rfl 0 (he_l rfl) 2 (by decide) q806 rfl (v := .ref (adn 10)) rfl dX13_item_224 ?_
        refine lv_iload_n hxR hbR dX13_item_227 rfl (lv_at hl 1 rfl) ?_
        refine lv_iload hxR hbR dX13_item_228 (lv_at hl 0 rfl) ?_
        refine lv_aload_n hxR hbR dX13_item_230 rfl (lv_at hl 4 rfl) ?_
        refine va_ldcS hxR hbR hown (hK.2.2.2.1 ("ThreeStrangers$Reader", 122, "since", 7) (by decide)) dX13_item_231 ?_
        have hct : (3 + ((nx b sz (nx b sz (nx b sz (nx b sz a)))) - nx b sz a)) + kxC (isW b sz (nx b sz (nx b sz (nx b sz a))) 7) b sz (nx b sz (nx b sz (nx b sz a))) ≤ coE b sz a (stm b sz n st mm hrn csn K a) := by
          cases e7 : isW b sz (nx b sz (nx b sz (nx b sz a))) 7 with
          | false => rw [kxC_f rfl]; have hx1 := hx1; omega
          | true =>
            rw [kxC_t rfl]
            refine coE_ge (fun v q e => ?_) (by omega)
            rcases co_w2 hW e with ⟨h9, _⟩ | ⟨_, h9⟩
            · rw [e7] at h9; exact absurd h9 (by decide)
            · have hgt3 := nx_gt (b := b) (a := (nx b sz (nx b sz (nx b sz a)))) (by rw [isW_k e7]; decide) hna3; have h4 := nx_ge (b := b) (sz := sz) (a := (nx b sz (nx b sz (nx b sz (nx b sz a))))); have h5 := fr_ge (b := b) (sz := sz) (a := (nx b sz (nx b sz (nx b sz (nx b sz a))))); rw [h9]; omega
        have hI : wI E AR sR _ _ (rdO E o tq sz (adn 10) (atC b sz (nx b sz (nx b sz (nx b sz a)))) (fr b sz (nx b sz (nx b sz (nx b sz a)))) (wdR E b sz (nx b sz (nx b sz (nx b sz a))) w2_218) (nuC b sz (nx b sz (nx b sz (nx b sz a)))) ++ (tpW E tq fT ++ (wdW E b sz (nx b sz (nx b sz (nx b sz a))) w2_218 ++ (tW E adn (va_up (va_up (va_up ivn 3 (nI n)) 4 (nI st)) 5 (nI mm)) hrn csn (sK K))))) := wI_pick ([rdO E o tq sz (adn 10) (atC b sz (nx b sz (nx b sz (nx b sz a)))) (fr b sz (nx b sz (nx b sz (nx b sz a)))) (wdR E b sz (nx b sz (nx b sz (nx b sz a))) w2_218) (nuC b sz (nx b sz (nx b sz (nx b sz a)))), tW E adn (va_up (va_up (va_up ivn 3 (nI n)) 4 (nI st)) 5 (nI mm)) hrn csn (sK K), tpW E tq fT, wdW E b sz (nx b sz (nx b sz (nx b sz a))) w2_218]) [0, 2, 3, 1] 4 rfl (by decide) hI
        have hI := wI_w app3 hI
        refine kVI (n := 1) (As := [.ref (E.1.2.1 7)]) (rest := [.int (nI (fg b sz (nx b sz (nx b sz a)))), .int (nI (fg b sz (nx b sz a))), .ref (adn 10)]) (fun w => w ++ (tW E adn (va_up (va_up (va_up ivn 3 (nI n)) 4 (nI st)) 5 (nI mm)) hrn csn (sK K))) hxR hbR hmlR hts hown hK hA hl.1 (isCtx.suf _) hI (c13_takes7 l E o tq (adn 10) fT b sz (nx b sz (nx b sz (nx b sz a))) w2_218 htp hsz hna3 hw_218) (lw_V q1138 q1140 qs16 q107 q1141) ⟨rfl, by decide +kernel⟩ 0 12 rfl rfl (he_l rfl) rfl (Nat.le_of_ble_eq_true rfl) (Nat.le_of_ble_eq_true rfl) ⟨by omega, by omega⟩ (Nat.le_of_ble_eq_true rfl) dX13_item_233 (fun r_233 u H locs hp hI hz => ?_)
        obtain ⟨w2_233, rfl⟩ : ∃ z, z = u := ⟨_, rfl⟩
        have hI := wI_w app3.symm hI
        have hI : wI E AR sR H locs (rdO E o tq sz (adn 10) (atC b sz (tkA (isW b sz (nx b sz (nx b sz (nx b sz a))) 7) b sz (nx b sz (nx b sz (nx b sz a))))) (fr b sz (tkA (isW b sz (nx b sz (nx b sz (nx b sz a))) 7) b sz (nx b sz (nx b sz (nx b sz a))))) (wdR E b sz (tkA (isW b sz (nx b sz (nx b sz (nx b sz a))) 7) b sz (nx b sz (nx b sz (nx b sz a)))) w2_233) (nuC b sz (tkA (isW b sz (nx b sz (nx b sz (nx b sz a))) 7) b sz (nx b sz (nx b sz (nx b sz a))))) ++ (tpW E tq fT ++ (wdW E b sz (tkA (isW b sz (nx b sz (nx b sz (nx b sz a))) 7) b sz (nx b sz (nx b sz (nx b sz a)))) w2_233 ++ (tW E adn (va_up (va_up (va_up ivn 3 (nI n)) 4 (nI st)) 5 (nI mm)) hrn csn (sK K))))) := hI
        have hI : wI E AR sR _ _ (rdO E o tq sz (adn 10) (atC b sz (tkA (isW b sz (nx b sz (nx b sz (nx b sz a))) 7) b sz (nx b sz (nx b sz (nx b sz a))))) (fr b sz (tkA (isW b sz (nx b sz (nx b sz (nx b sz a))) 7) b sz (nx b sz (nx b sz (nx b sz a))))) (wdR E b sz (tkA (isW b sz (nx b sz (nx b sz (nx b sz a))) 7) b sz (nx b sz (nx b sz (nx b sz a)))) w2_233) (nuC b sz (tkA (isW b sz (nx b sz (nx b sz (nx b sz a))) 7) b sz (nx b sz (nx b sz (nx b sz a))))) ++ (tW E adn (va_up (va_up (va_up ivn 3 (nI n)) 4 (nI st)) 5 (nI mm)) hrn csn (sK K) ++ (tpW E tq fT ++ (wdW E b sz (tkA (isW b sz (nx b sz (nx b sz (nx b sz a))) 7) b sz (nx b sz (nx b sz (nx b sz a)))) w2_233)))) := wI_pick ([rdO E o tq sz (adn 10) (atC b sz (tkA (isW b sz (nx b sz (nx b sz (nx b sz a))) 7) b sz (nx b sz (nx b sz (nx b sz a))))) (fr b sz (tkA (isW b sz (nx b sz (nx b sz (nx b sz a))) 7) b sz (nx b sz (nx b sz (nx b sz a))))) (wdR E b sz (tkA (isW b sz (nx b sz (nx b sz (nx b sz a))) 7) b sz (nx b sz (nx b sz (nx b sz a)))) w2_233) (nuC b sz (tkA (isW b sz (nx b sz (nx b sz (nx b sz a))) 7) b sz (nx b sz (nx b sz (nx b sz a))))), tpW E tq fT, wdW E b sz (tkA (isW b sz (nx b sz (nx b sz (nx b sz a))) 7) b sz (nx b sz (nx b sz (nx b sz a)))) w2_233, tW E adn (va_up (va_up (va_up ivn 3 (nI n)) 4 (nI st)) 5 (nI mm)) hrn csn (sK K)]) [0, 3, 1, 2] 4 rfl (by decide) hI
        have hp : r_233 = b2i (isW b sz (nx b sz (nx b sz (nx b sz a))) 7) ∧ wOk b sz (tkA (isW b sz (nx b sz (nx b sz (nx b sz a))) 7) b sz (nx b sz (nx b sz (nx b sz a)))) w2_233 := hp
        obtain ⟨hr_233, hw_233⟩ := hp
        rcases b2i_cases hr_233 with ⟨c_233, rfl⟩ | ⟨c_233, rfl⟩
        · skip
          have c_233 : isW b sz (nx b sz (nx b sz (nx b sz a))) 7 = true := c_233
          have hI := wI_w (ws' := rdO E o tq sz (adn 10) (atC b sz (nx b sz (nx b sz (nx b sz (nx b sz a))))) (fr b sz (nx b sz (nx b sz (nx b sz (nx b sz a))))) (wdR E b sz (nx b sz (nx b sz (nx b sz (nx b sz a)))) w2_233) (nuC b sz (nx b sz (nx b sz (nx b sz (nx b sz a))))) ++ (tW E adn (va_up (va_up (va_up ivn 3 (nI n)) 4 (nI st)) 5 (nI mm)) hrn csn (sK K) ++ (tpW E tq fT ++ (wdW E b sz (nx b sz (nx b sz (nx b sz (nx b sz a)))) w2_233)))) (by rw [tkA_t c_233]) hI
          have hw9 : wOk b sz (nx b sz (nx b sz (nx b sz (nx b sz a)))) w2_233 := by have h9 := hw_233; rw [tkA_t c_233] at h9; exact h9
          have hkx := kxC_t (b := b) (sz := sz) (a := (nx b sz (nx b sz (nx b sz a)))) c_233
          refine lv_if_eq (tgt := 249) hxR hbR dX13_item_236 (by decide) (fun c => absurd c (by decide)) (fun _ => ?_)
          refine lv_aload_n hxR hbR dX13_item_239 rfl (lv_at hl 4 rfl) ?_
          refine lv_iconst (v := 0) hxR hbR dX13_item_240 (by decide) ?_
          refine lv_bipush (v := 99) hxR hbR dX13_item_241 (by decide) ?_
          have hc5 : (4 + (nx b sz (nx b sz (nx b sz (nx b sz (nx b sz (nx b sz a))))) - nx b sz a)) + (1 + (nx b sz (nx b sz (nx b sz (nx b sz (nx b sz (nx b sz a))))) - nx b sz (nx b sz (nx b sz (nx b sz (nx b sz a)))))) - (nx b sz (nx b sz (nx b sz (nx b sz (nx b sz (nx b sz a))))) - nx b sz (nx b sz (nx b sz (nx b sz (nx b sz a))))) ≤ coE b sz a (stm b sz n st mm hrn csn K a) := by
            refine coE_ge (fun v q e => ?_) ?_
            · rcases co_w2 hW e with ⟨h9, _⟩ | ⟨_, h9⟩
              · rw [c_233] at h9; exact absurd h9 (by decide)
              · have hgt3 := nx_gt (b := b) (a := (nx b sz (nx b sz (nx b sz a)))) (by rw [isW_k c_233]; decide) hna3; rw [h9]; omega
            · have hgt3 := nx_gt (b := b) (a := (nx b sz (nx b sz (nx b sz a)))) (by rw [isW_k c_233]; decide) hna3; omega
          have hI : wI E AR sR _ _ (rdO E o tq sz (adn 10) (atC b sz (nx b sz (nx b sz (nx b sz (nx b sz a))))) (fr b sz (nx b sz (nx b sz (nx b sz (nx b sz a))))) (wdR E b sz (nx b sz (nx b sz (nx b sz (nx b sz a)))) w2_233) (nuC b sz (nx b sz (nx b sz (nx b sz (nx b sz a))))) ++ (tpW E tq fT ++ (wdW E b sz (nx b sz (nx b sz (nx b sz (nx b sz a)))) w2_233 ++ (tW E adn (va_up (va_up (va_up ivn 3 (nI n)) 4 (nI st)) 5 (nI mm)) hrn csn (sK K))))) := wI_pick ([rdO E o tq sz (adn 10) (atC b sz (nx b sz (nx b sz (nx b sz (nx b sz a))))) (fr b sz (nx b sz (nx b sz (nx b sz (nx b sz a))))) (wdR E b sz (nx b sz (nx b sz (nx b sz (nx b sz a)))) w2_233) (nuC b sz (nx b sz (nx b sz (nx b sz (nx b sz a))))), tW E adn (va_up (va_up (va_up ivn 3 (nI n)) 4 (nI st)) 5 (nI mm)) hrn csn (sK K), tpW E tq fT, wdW E b sz (nx b sz (nx b sz (nx b sz (nx b sz a)))) w2_233]) [0, 2, 3, 1] 4 rfl (by decide) hI
          have hI := wI_w app3 hI
          refine kVIX (n := 2) (As := [.int 0, .int 99]) (rest := [.int (nI (fg b sz (nx b sz (nx b sz a)))), .int (nI (fg b sz (nx b sz a))), .ref (adn 10)]) (fun w => w ++ (tW E adn (va_up (va_up (va_up ivn 3 (nI n)) 4 (nI st)) 5 (nI mm)) hrn csn (sK K))) hxR hbR hmlR hts hown hK hA hl.1 (isCtx.suf _) hI (c13_number l E o tq (adn 10) fT b sz (nx b sz (nx b sz (nx b sz (nx b sz a)))) w2_233 0 99 0 99 hlt htp hsz hna4 hw9 rfl rfl (by omega) (by omega)) (lw_V q1124 q1126 qs13 q107 q1127) ⟨rfl, by decide +kernel⟩ 0 12 rfl rfl (he_l rfl) rfl (Nat.le_of_ble_eq_true rfl) (Nat.le_of_ble_eq_true rfl) ⟨by omega, by omega⟩ (Nat.le_of_ble_eq_true rfl) dX13_item_243 (fun En ce_243 q_243 u H locs hX hI hz hq1 hq2 hq3 => ?_) (fun r_243 u H locs hp hI hz => ?_)
          · skip
            have hI := wI_w app2.symm hI
            have hI : wI E AR sR H locs (tpW E tq fT ++ ([(q_243, .inr (13, [.null, .null, .null, .null, .null, .int 0, .int (nI (fr b sz (nx b sz (nx b sz (nx b sz (nx b sz a))))))]))] ++ (tW E adn (va_up (va_up (va_up ivn 3 (nI n)) 4 (nI st)) 5 (nI mm)) hrn csn (sK K)))) := hI
            have hI : wI E AR sR _ _ (tW E adn (va_up (va_up (va_up ivn 3 (nI n)) 4 (nI st)) 5 (nI mm)) hrn csn (sK K) ++ (tpW E tq fT ++ ([(q_243, .inr (13, [.null, .null, .null, .null, .null, .int 0, .int (nI (fr b sz (nx b sz (nx b sz (nx b sz (nx b sz a))))))]))]))) := wI_pick ([tpW E tq fT, [(q_243, .inr (13, [.null, .null, .null, .null, .null, .int 0, .int (nI (fr b sz (nx b sz (nx b sz (nx b sz (nx b sz a))))))]))], tW E adn (va_up (va_up (va_up ivn 3 (nI n)) 4 (nI st)) 5 (nI mm)) hrn csn (sK K)]) [2, 0, 1] 3 rfl (by decide) hI
            have hX : En = "ThreeStrangers$Fault" ∧ numE b sz (nx b sz (nx b sz (nx b sz (nx b sz a)))) 0 99 = .error (fr b sz (nx b sz (nx b sz (nx b sz (nx b sz a))))) := hX
            obtain ⟨rfl, hok_243⟩ := hX
            have hI := wI_dropL hI
            have hI : wI E AR sR _ _ (tpW E tq fT ++ ([(q_243, .inr (13, [.null, .null, .null, .null, .null, .int 0, .int (nI (fr b sz (nx b sz (nx b sz (nx b sz (nx b sz a))))))]))])) := hI
            exact hthr (fr b sz (nx b sz (nx b sz (nx b sz (nx b sz a))))) _ _ _ _ _ _ _ _ _ _ hq1 hq2 hq3 hI ⟨rfl, (by rw [stm_w2 hW, knoE_2 (twoE_4 hok_212 hne_218 hok_218) c_233 hok_243])⟩ (by omega) (by omega)
          · skip
            obtain ⟨w2_243, rfl⟩ : ∃ z, z = u := ⟨_, rfl⟩
            have hI := wI_w app3.symm hI
            have hI : wI E AR sR H locs (rdO E o tq sz (adn 10) (atC b sz (nx b sz (nx b sz (nx b sz (nx b sz (nx b sz a)))))) (fr b sz (nx b sz (nx b sz (nx b sz (nx b sz (nx b sz a)))))) (wdR E b sz (nx b sz (nx b sz (nx b sz (nx b sz (nx b sz a))))) w2_243) (nuC b sz (nx b sz (nx b sz (nx b sz (nx b sz (nx b sz a)))))) ++ (tpW E tq fT ++ (wdW E b sz (nx b sz (nx b sz (nx b sz (nx b sz (nx b sz a))))) w2_243 ++ (tW E adn (va_up (va_up (va_up ivn 3 (nI n)) 4 (nI st)) 5 (nI mm)) hrn csn (sK K))))) := hI
            have hI : wI E AR sR _ _ (rdO E o tq sz (adn 10) (atC b sz (nx b sz (nx b sz (nx b sz (nx b sz (nx b sz a)))))) (fr b sz (nx b sz (nx b sz (nx b sz (nx b sz (nx b sz a)))))) (wdR E b sz (nx b sz (nx b sz (nx b sz (nx b sz (nx b sz a))))) w2_243) (nuC b sz (nx b sz (nx b sz (nx b sz (nx b sz (nx b sz a)))))) ++ (tW E adn (va_up (va_up (va_up ivn 3 (nI n)) 4 (nI st)) 5 (nI mm)) hrn csn (sK K) ++ (tpW E tq fT ++ (wdW E b sz (nx b sz (nx b sz (nx b sz (nx b sz (nx b sz a))))) w2_243)))) := wI_pick ([rdO E o tq sz (adn 10) (atC b sz (nx b sz (nx b sz (nx b sz (nx b sz (nx b sz a)))))) (fr b sz (nx b sz (nx b sz (nx b sz (nx b sz (nx b sz a)))))) (wdR E b sz (nx b sz (nx b sz (nx b sz (nx b sz (nx b sz a))))) w2_243) (nuC b sz (nx b sz (nx b sz (nx b sz (nx b sz (nx b sz a)))))), tpW E tq fT, wdW E b sz (nx b sz (nx b sz (nx b sz (nx b sz (nx b sz a))))) w2_243, tW E adn (va_up (va_up (va_up ivn 3 (nI n)) 4 (nI st)) 5 (nI mm)) hrn csn (sK K)]) [0, 3, 1, 2] 4 rfl (by decide) hI
            have hp : r_243 = nI (fg b sz (nx b sz (nx b sz (nx b sz (nx b sz a))))) ∧ numE b sz (nx b sz (nx b sz (nx b sz (nx b sz a)))) 0 99 = .ok (fg b sz (nx b sz (nx b sz (nx b sz (nx b sz a)))), nx b sz (nx b sz (nx b sz (nx b sz (nx b sz a))))) ∧ wOk b sz (nx b sz (nx b sz (nx b sz (nx b sz (nx b sz a))))) w2_243 := hp
            obtain ⟨rfl, hok_243, hw_243⟩ := hp
            refine lv_goto (tgt := 250) hxR hbR dX13_item_246 (by decide) ?_
            refine kVV (n := 3) (As := [.int (nI (fg b sz (nx b sz a))), .int (nI (fg b sz (nx b sz (nx b sz a)))), .int (nI (fg b sz (nx b sz (nx b sz (nx b sz (nx b sz a))))))]) (rest := []) (fun w => (rdO E o tq sz (adn 10) (atC b sz (nx b sz (nx b sz (nx b sz (nx b sz (nx b sz a)))))) (fr b sz (nx b sz (nx b sz (nx b sz (nx b sz (nx b sz a)))))) (wdR E b sz (nx b sz (nx b sz (nx b sz (nx b sz (nx b sz a))))) w2_243) (nuC b sz (nx b sz (nx b sz (nx b sz (nx b sz (nx b sz a))))))) ++ (w ++ (tpW E tq fT ++ (wdW E b sz (nx b sz (nx b sz (nx b sz (nx b sz (nx b sz a))))) w2_243)))) hxR hbR hmlR hts hown hK hA hl.1 (isCtx.mk _ _) hI (c1_knows l E adn (va_up (va_up (va_up ivn 3 (nI n)) 4 (nI st)) 5 (nI mm)) hrn csn K (fg b sz (nx b sz a)) (fg b sz (nx b sz (nx b sz a))) (nI (fg b sz (nx b sz (nx b sz (nx b sz (nx b sz a)))))) (by omega) (by omega)) (lw_V q1142 q748 q749 q82 q750) ⟨rfl, by decide +kernel⟩ 0 1 rfl rfl tW_o rfl (Nat.le_of_ble_eq_true rfl) (Nat.le_of_ble_eq_true rfl) ⟨by omega, by omega⟩ (Nat.le_of_ble_eq_true rfl) dX13_item_250 (fun u H locs hp hI hz => ?_)
            have hI : wI E AR sR H locs (rdO E o tq sz (adn 10) (atC b sz (nx b sz (nx b sz (nx b sz (nx b sz (nx b sz a)))))) (fr b sz (nx b sz (nx b sz (nx b sz (nx b sz (nx b sz a)))))) (wdR E b sz (nx b sz (nx b sz (nx b sz (nx b sz (nx b sz a))))) w2_243) (nuC b sz (nx b sz (nx b sz (nx b sz (nx b sz (nx b sz a)))))) ++ (tW E adn (va_up (va_up (va_up ivn 3 (nI n)) 4 (nI st)) 5 (nI mm)) hrn csn (sK (knF K (fg b sz (nx b sz a)) (fg b sz (nx b sz (nx b sz a))) (nI (fg b sz (nx b sz (nx b sz (nx b sz (nx b sz a)))))))) ++ (tpW E tq fT ++ (wdW E b sz (nx b sz (nx b sz (nx b sz (nx b sz (nx b sz a))))) w2_243)))) := hI
            refine lv_goto (tgt := 335) hxR hbR dX13_item_253 (by decide) ?_
            exact hret (n, st, mm, hrn, csn, (knF K (fg b sz (nx b sz a)) (fg b sz (nx b sz (nx b sz a))) (nI (fg b sz (nx b sz (nx b sz (nx b sz (nx b sz a))))))), (nx b sz (nx b sz (nx b sz (nx b sz (nx b sz a))))), w2_243) _ _ _ _ _ _ dX13_item_335 hI (by show (stm b sz n st mm hrn csn K a) = .ok ((n, st, mm, hrn, csn, (knF K (fg b sz (nx b sz a)) (fg b sz (nx b sz (nx b sz a))) (nI (fg b sz (nx b sz (nx b sz (nx b sz (nx b sz a)))))))), (nx b sz (nx b sz (nx b sz (nx b sz (nx b sz a)))))) ∧ wOk b sz (nx b sz (nx b sz (nx b sz (nx b sz (nx b sz a))))) w2_243; exact ⟨by rw [stm_w2 hW, (knoE_3 (twoE_4 hok_212 hne_218 hok_218) c_233 hok_243)], hw_243⟩) (by omega) (by omega)
        · skip
          have c_233 : isW b sz (nx b sz (nx b sz (nx b sz a))) 7 = false := c_233
          have hI := wI_w (ws' := rdO E o tq sz (adn 10) (atC b sz (nx b sz (nx b sz (nx b sz a)))) (fr b sz (nx b sz (nx b sz (nx b sz a)))) (wdR E b sz (nx b sz (nx b sz (nx b sz a))) w2_233) (nuC b sz (nx b sz (nx b sz (nx b sz a)))) ++ (tW E adn (va_up (va_up (va_up ivn 3 (nI n)) 4 (nI st)) 5 (nI mm)) hrn csn (sK K) ++ (tpW E tq fT ++ (wdW E b sz (nx b sz (nx b sz (nx b sz a))) w2_233)))) (by rw [tkA_f c_233]) hI
          have hw9 : wOk b sz (nx b sz (nx b sz (nx b sz a))) w2_233 := by have h9 := hw_233; rw [tkA_f c_233] at h9; exact h9
          have hkx := kxC_f (b := b) (sz := sz) (a := (nx b sz (nx b sz (nx b sz a)))) c_233
          refine lv_if_eq (tgt := 249) hxR hbR dX13_item_236 (by decide) (fun _ => ?_) (fun c => absurd c (by decide))
          refine lv_iconst (v := 0) hxR hbR dX13_item_249 (by decide) ?_
          refine kVV (n := 3) (As := [.int (nI (fg b sz (nx b sz a))), .int (nI (fg b sz (nx b sz (nx b sz a)))), .int 0]) (rest := []) (fun w => (rdO E o tq sz (adn 10) (atC b sz (nx b sz (nx b sz (nx b sz a)))) (fr b sz (nx b sz (nx b sz (nx b sz a)))) (wdR E b sz (nx b sz (nx b sz (nx b sz a))) w2_233) (nuC b sz (nx b sz (nx b sz (nx b sz a))))) ++ (w ++ (tpW E tq fT ++ (wdW E b sz (nx b sz (nx b sz (nx b sz a))) w2_233)))) hxR hbR hmlR hts hown hK hA hl.1 (isCtx.mk _ _) hI (c1_knows l E adn (va_up (va_up (va_up ivn 3 (nI n)) 4 (nI st)) 5 (nI mm)) hrn csn K (fg b sz (nx b sz a)) (fg b sz (nx b sz (nx b sz a))) 0 (by omega) (by omega)) (lw_V q1142 q748 q749 q82 q750) ⟨rfl, by decide +kernel⟩ 0 1 rfl rfl tW_o rfl (Nat.le_of_ble_eq_true rfl) (Nat.le_of_ble_eq_true rfl) ⟨by omega, by omega⟩ (Nat.le_of_ble_eq_true rfl) dX13_item_250 (fun u H locs hp hI hz => ?_)
          have hI : wI E AR sR H locs (rdO E o tq sz (adn 10) (atC b sz (nx b sz (nx b sz (nx b sz a)))) (fr b sz (nx b sz (nx b sz (nx b sz a)))) (wdR E b sz (nx b sz (nx b sz (nx b sz a))) w2_233) (nuC b sz (nx b sz (nx b sz (nx b sz a)))) ++ (tW E adn (va_up (va_up (va_up ivn 3 (nI n)) 4 (nI st)) 5 (nI mm)) hrn csn (sK (knF K (fg b sz (nx b sz a)) (fg b sz (nx b sz (nx b sz a))) 0)) ++ (tpW E tq fT ++ (wdW E b sz (nx b sz (nx b sz (nx b sz a))) w2_233)))) := hI
          refine lv_goto (tgt := 335) hxR hbR dX13_item_253 (by decide) ?_
          exact hret (n, st, mm, hrn, csn, (knF K (fg b sz (nx b sz a)) (fg b sz (nx b sz (nx b sz a))) 0), (nx b sz (nx b sz (nx b sz a))), w2_233) _ _ _ _ _ _ dX13_item_335 hI (by show (stm b sz n st mm hrn csn K a) = .ok ((n, st, mm, hrn, csn, (knF K (fg b sz (nx b sz a)) (fg b sz (nx b sz (nx b sz a))) 0)), (nx b sz (nx b sz (nx b sz a)))) ∧ wOk b sz (nx b sz (nx b sz (nx b sz a))) w2_233; exact ⟨by rw [stm_w2 hW, (knoE_4 (twoE_4 hok_212 hne_218 hok_218) c_233)], hw9⟩) (by omega) (by omega)
  · skip
    have c_97 : ¬ strEq wz.2.2 (nx b sz a - fr b sz a) 2 := eqK_f c_97
    exact absurd ((wOk_isW hw hk_4).mp hW) c_97

set_option maxHeartbeats 8000000 in
theorem c13_item_3 (l : Launch) (E : En) (o : Nat) (tq : Nat) (adn : Nat → Nat) (ivn : Nat → Int32) (hrn : Nat → Int32) (csn : Nat → Int32) (fT : Nat → Int32)  (b : Nat → Nat) (sz a : Nat)(wz : WD) (K : Nat → Nat → Int32) (n st mm : Nat)  (hlt : l.stackTraces = false) (htp : tpOk fT b sz) (hsz : sz ≤ 250) (ha : a ≤ sz) (hw : wOk b sz a wz) (hn : ivn 3 = nI n) (hst : ivn 4 = nI st) (hmm : ivn 5 = nI mm) (hn7 : n ≤ 7) (hW : isW b sz a 3 = true) : XtV l E yX13_item (ws_ yX13_item cX13_item 5 none) 11 (4 * coE b sz a (stm b sz n st mm hrn csn K a)) (1024 * coE b sz a (stm b sz n st mm hrn csn K a)) [.ref o] (rdO E o tq sz (adn 10) (atC b sz a) (fr b sz a) (wdR E b sz a wz) (nuC b sz a) ++ (tW E adn ivn hrn csn (sK K) ++ (tpW E tq fT ++ (wdW E b sz a wz)))) (fun (u : Nat × Nat × Nat × (Nat → Int32) × (Nat → Int32) × (Nat → Nat → Int32) × Nat × WD) => (stm b sz n st mm hrn csn K a) = .ok ((u.1, u.2.1, u.2.2.1, u.2.2.2.1, u.2.2.2.2.1, u.2.2.2.2.2.1), u.2.2.2.2.2.2.1) ∧ wOk b sz u.2.2.2.2.2.2.1 u.2.2.2.2.2.2.2) (fun (u : Nat × Nat × Nat × (Nat → Int32) × (Nat → Int32) × (Nat → Nat → Int32) × Nat × WD) => rdO E o tq sz (adn 10) (atC b sz u.2.2.2.2.2.2.1) (fr b sz u.2.2.2.2.2.2.1) (wdR E b sz u.2.2.2.2.2.2.1 u.2.2.2.2.2.2.2) (nuC b sz u.2.2.2.2.2.2.1) ++ (tW E adn (va_up (va_up (va_up ivn 3 (nI u.1)) 4 (nI u.2.1)) 5 (nI u.2.2.1)) u.2.2.2.1 u.2.2.2.2.1 (sK u.2.2.2.2.2.1) ++ (tpW E tq fT ++ (wdW E b sz u.2.2.2.2.2.2.1 u.2.2.2.2.2.2.2)))) (fun (En : String) (u : Nat) => En = "ThreeStrangers$Fault" ∧ (stm b sz n st mm hrn csn K a) = .error u) (fun (u : Nat) (q : Nat) => tpW E tq fT ++ ([(q, .inr (13, [.null, .null, .null, .null, .null, .int 0, .int (nI u)]))])) := by
  have hna := nx_le (b := b) ha
  have hna2 := nx_le (b := b) hna
  have hna3 := nx_le (b := b) hna2
  have hg1 := nx2_le (b := b) ha
  have hg2 := nx2_le (b := b) hna
  have hna4 := nx_le (b := b) hna3
  have hna5 := nx_le (b := b) hna4
  have hna6 := nx_le (b := b) hna5
  have hg3 := nx2_le (b := b) hna2
  have hg4 := nx2_le (b := b) hna3
  have hg5 := nx2_le (b := b) hna4
  have hfa := fr_ge (b := b) (sz := sz) (a := a)
  have hfn := nx_ge (b := b) (sz := sz) (a := a)
  refine XtV.of (by decide +kernel) (Nat.le_of_ble_eq_true rfl) ?_
  intro pR eR sR mR aR bR tR cR AR ls QR hxR hbR hmlR hts hown hlk hnm hA hK hI hl hret hthr
  have hl : lv_has ls 5 [(0, .ref o)] := hl
  have hI := wI_w (ws' := rdO E o tq sz (adn 10) (atC b sz a) (fr b sz a) (wdR E b sz a wz) (nuC b sz a) ++ (tW E adn (va_up ivn 3 (nI n)) hrn csn (sK K) ++ (tpW E tq fT ++ (wdW E b sz a wz)))) (by rw [va_up_id (f := ivn) (k := 3) (v := nI n) hn]) hI
  have hI := wI_w (ws' := rdO E o tq sz (adn 10) (atC b sz a) (fr b sz a) (wdR E b sz a wz) (nuC b sz a) ++ (tW E adn (va_up (va_up ivn 3 (nI n)) 4 (nI st)) hrn csn (sK K) ++ (tpW E tq fT ++ (wdW E b sz a wz)))) (by rw [va_up_id (f := (va_up ivn 3 (nI n))) (k := 4) (v := nI st) (up_n (by decide) hst)]) hI
  have hI := wI_w (ws' := rdO E o tq sz (adn 10) (atC b sz a) (fr b sz a) (wdR E b sz a wz) (nuC b sz a) ++ (tW E adn (va_up (va_up (va_up ivn 3 (nI n)) 4 (nI st)) 5 (nI mm)) hrn csn (sK K) ++ (tpW E tq fT ++ (wdW E b sz a wz)))) (by rw [va_up_id (f := (va_up (va_up ivn 3 (nI n)) 4 (nI st))) (k := 5) (v := nI mm) (up_n (by decide) (up_n (by decide) hmm))]) hI
  refine lv_aload_n hxR hbR dX13_item_0 rfl (lv_at hl 0 rfl) ?_
  refine r_get hxR hbR hts hown hK hI okX13 (ci := 12) rfl 0 (he_l rfl) 5 (by decide) q810 rfl (v := va_rf (wdR E b sz a wz)) rfl dX13_item_1 ?_
  have hk_4 : kd b sz a = 1 := isW_k hW
  rw [wdR_1 hk_4]
  have hI := wI_w (ws' := rdO E o tq sz (adn 10) (atC b sz a) (fr b sz a) (some (wz.1)) (nuC b sz a) ++ (tW E adn (va_up (va_up (va_up ivn 3 (nI n)) 4 (nI st)) 5 (nI mm)) hrn csn (sK K) ++ (tpW E tq fT ++ (strH E wz.1 wz.2.1 (nx b sz a - fr b sz a) wz.2.2 0 0)))) (by rw [wdR_1 hk_4, wdW_1 hk_4]) hI
  refine lv_ifnonnull (tgt := 12) hxR hbR dX13_item_4 (by decide) ?_
  refine lv_aload_n hxR hbR dX13_item_12 rfl (lv_at hl 0 rfl) ?_
  refine r_get hxR hbR hts hown hK hI okX13 (ci := 12) rfl 0 (he_l rfl) 5 (by decide) q810 rfl (v := .ref wz.1) rfl dX13_item_13 ?_
  refine lv_astore_n (lv' := [(1, .ref wz.1), (0, .ref o)]) hxR hbR dX13_item_16 rfl hl (by decide) rfl (fun ls hl => ?_)
  refine lv_iconst (v := (-1)) hxR hbR dX13_item_17 (by decide) ?_
  refine lv_istore_n (lv' := [(2, .int (-1)), (1, .ref wz.1), (0, .ref o)]) hxR hbR dX13_item_18 rfl hl (by decide) rfl (fun ls hl => ?_)
  refine lv_aload_n hxR hbR dX13_item_19 rfl (lv_at hl 1 rfl) ?_
  have hwl := nx1_lt hk_4 ha
  have hI := wI_w app3 hI
  refine kVI (n := 0) (As := []) (rest := []) (fun w => (rdO E o tq sz (adn 10) (atC b sz a) (fr b sz a) (some (wz.1)) (nuC b sz a) ++ (tW E adn (va_up (va_up (va_up ivn 3 (nI n)) 4 (nI st)) 5 (nI mm)) hrn csn (sK K) ++ (tpW E tq fT))) ++ w) hxR hbR hmlR hts hown hK hA hl.1 (isCtx.pre _) hI (j4_hashCode l E wz.1 wz.2.1 (nx b sz a - fr b sz a) wz.2.2  (by omega) (by omega)) (lw_V q1053 q1054 q1055 q91 q1056) ⟨rfl, by decide +kernel⟩ 0 15 rfl rfl rfl rfl (Nat.le_of_ble_eq_true rfl) (Nat.le_of_ble_eq_true rfl) ⟨by omega, by omega⟩ (Nat.le_of_ble_eq_true rfl) dX13_item_20 (fun r_20 u H locs hp hI hz => ?_)
  obtain ⟨h9_20, z9_20⟩ := u
  have hI := wI_w app3.symm hI
  have hI : wI E AR sR H locs (rdO E o tq sz (adn 10) (atC b sz a) (fr b sz a) (some (wz.1)) (nuC b sz a) ++ (tW E adn (va_up (va_up (va_up ivn 3 (nI n)) 4 (nI st)) 5 (nI mm)) hrn csn (sK K) ++ (tpW E tq fT ++ (strH E wz.1 wz.2.1 (nx b sz a - fr b sz a) wz.2.2 h9_20 z9_20)))) := hI
  have hp : r_20 = hshF wz.2.2 (nx b sz a - fr b sz a) := hp
  have hr_20 := hp
  subst hr_20
  have ck_0 : hshF wz.2.2 (nx b sz a - fr b sz a) = (-1881997444) := (hsh_K (i := 3) (by decide) ((wOk_isW hw hk_4).mp hW)).trans (by decide +kernel)
  refine lv_lookup (off := 85) (tgt := 108) hxR hbR dX13_item_23 (by decide) (by rw [ck_0]; decide) (by decide) ?_
  refine lv_aload_n hxR hbR dX13_item_108 rfl (lv_at hl 1 rfl) ?_
  refine va_ldcS hxR hbR hown (hK.2.2.2.1 ("ThreeStrangers$Reader", 109, "strange", 3) (by decide)) dX13_item_109 ?_
  have hI := wI_w app3 hI
  refine kVI (n := 1) (As := [.ref (E.1.2.1 3)]) (rest := []) (fun w => (rdO E o tq sz (adn 10) (atC b sz a) (fr b sz a) (some (wz.1)) (nuC b sz a) ++ (tW E adn (va_up (va_up (va_up ivn 3 (nI n)) 4 (nI st)) 5 (nI mm)) hrn csn (sK K) ++ (tpW E tq fT))) ++ w) hxR hbR hmlR hts hown hK hA hl.1 (isCtx.pre _) hI (j4_equals l E wz.1 wz.2.1 (nx b sz a - fr b sz a) wz.2.2 h9_20 z9_20 3 (by decide) (by omega)) (lw_V q1107 q1108 q1109 q91 q1110) ⟨rfl, by decide +kernel⟩ 0 15 rfl rfl rfl rfl (Nat.le_of_ble_eq_true rfl) (Nat.le_of_ble_eq_true rfl) ⟨by omega, by omega⟩ (Nat.le_of_ble_eq_true rfl) dX13_item_111 (fun r_111 u H locs hp hI hz => ?_)
  have hI := wI_w app3.symm hI
  have hI : wI E AR sR H locs (rdO E o tq sz (adn 10) (atC b sz a) (fr b sz a) (some (wz.1)) (nuC b sz a) ++ (tW E adn (va_up (va_up (va_up ivn 3 (nI n)) 4 (nI st)) 5 (nI mm)) hrn csn (sK K) ++ (tpW E tq fT ++ (strH E wz.1 wz.2.1 (nx b sz a - fr b sz a) wz.2.2 h9_20 z9_20)))) := hI
  have hp : r_111 = b2i (eqK wz.2.2 (nx b sz a - fr b sz a) 3) := hp
  have hr_111 := hp
  rcases b2i_cases hr_111 with ⟨c_111, rfl⟩ | ⟨c_111, rfl⟩
  · skip
    have c_111 : strEq wz.2.2 (nx b sz a - fr b sz a) 3 := eqK_t c_111
    have hlen := isW_ln hW
    have hlen : nx b sz a - fr b sz a = 7 := hlen
    have hco : (nx b sz (nx b sz (nx b sz a)) - a) + (nx b sz (nx b sz (nx b sz (nx b sz a))) - nx b sz a) ≤ coE b sz a (stm b sz n st mm hrn csn K a) := coE_ge (fun v q e => by have h9 := co_w3 hW e; rw [h9]; exact Nat.le_refl _) (by omega)
    refine lv_if_eq (tgt := 161) hxR hbR dX13_item_114 (by decide) (fun c => absurd c (by decide)) (fun _ => ?_)
    refine lv_iconst (v := 2) hxR hbR dX13_item_117 (by decide) ?_
    refine lv_istore_n (lv' := [(2, .int 2), (1, .ref wz.1), (0, .ref o)]) hxR hbR dX13_item_118 rfl hl (by decide) rfl (fun ls hl => ?_)
    refine lv_goto (tgt := 161) hxR hbR dX13_item_119 (by decide) ?_
    refine lv_iload_n hxR hbR dX13_item_161 rfl (lv_at hl 0 rfl) ?_
    refine lv_tableIn (tgt := 256) hxR hbR dX13_item_162 (by decide) (by decide) rfl (by decide) ?_
    refine lv_aload_n hxR hbR dX13_item_256 rfl (lv_at hl 2 rfl) ?_
    have hat : atC b sz a = nx b sz a := atC_k hk_4 (by decide)
    have hI : wI E AR sR _ _ (strH E wz.1 wz.2.1 (nx b sz a - fr b sz a) wz.2.2 h9_20 z9_20 ++ (rdO E o tq sz (adn 10) (atC b sz a) (fr b sz a) (some (wz.1)) (nuC b sz a) ++ (tW E adn (va_up (va_up (va_up ivn 3 (nI n)) 4 (nI st)) 5 (nI mm)) hrn csn (sK K) ++ (tpW E tq fT)))) := wI_pick ([rdO E o tq sz (adn 10) (atC b sz a) (fr b sz a) (some (wz.1)) (nuC b sz a), tW E adn (va_up (va_up (va_up ivn 3 (nI n)) 4 (nI st)) 5 (nI mm)) hrn csn (sK K), tpW E tq fT, strH E wz.1 wz.2.1 (nx b sz a - fr b sz a) wz.2.2 h9_20 z9_20]) [3, 0, 1, 2] 4 rfl (by decide) hI
    have hI := wI_dropL hI
    have hI : wI E AR sR _ _ (rdO E o tq sz (adn 10) (atC b sz a) (fr b sz a) (some (wz.1)) (nuC b sz a) ++ (tW E adn (va_up (va_up (va_up ivn 3 (nI n)) 4 (nI st)) 5 (nI mm)) hrn csn (sK K) ++ (tpW E tq fT))) := hI
    have hI := wI_w (ws' := rdO E o tq sz (adn 10) (nx b sz a) (fr b sz a) (some (wz.1)) (nuC b sz a) ++ (tW E adn (va_up (va_up (va_up ivn 3 (nI n)) 4 (nI st)) 5 (nI mm)) hrn csn (sK K) ++ (tpW E tq fT ++ (([] : va_W))))) (by rw [hat, List.append_nil]) hI
    have hI : wI E AR sR _ _ (rdO E o tq sz (adn 10) (nx b sz a) (fr b sz a) (some (wz.1)) (nuC b sz a) ++ (tpW E tq fT ++ (([] : va_W) ++ (tW E adn (va_up (va_up (va_up ivn 3 (nI n)) 4 (nI st)) 5 (nI mm)) hrn csn (sK K))))) := wI_pick ([rdO E o tq sz (adn 10) (nx b sz a) (fr b sz a) (some (wz.1)) (nuC b sz a), tW E adn (va_up (va_up (va_up ivn 3 (nI n)) 4 (nI st)) 5 (nI mm)) hrn csn (sK K), tpW E tq fT, ([] : va_W)]) [0, 2, 3, 1] 4 rfl (by decide) hI
    have hI := wI_w app3 hI
    refine kVV (n := 0) (As := []) (rest := []) (fun w => w ++ (tW E adn (va_up (va_up (va_up ivn 3 (nI n)) 4 (nI st)) 5 (nI mm)) hrn csn (sK K))) hxR hbR hmlR hts hown hK hA hl.1 (isCtx.suf _) hI (c13_next l E o tq (adn 10) (fr b sz a) (some (wz.1)) (nuC b sz a) fT b sz (nx b sz a) htp hsz hna) (lw_V q831 q833 qs8 q107 q834) ⟨rfl, by decide +kernel⟩ 0 12 rfl rfl (he_l rfl) rfl (Nat.le_of_ble_eq_true rfl) (Nat.le_of_ble_eq_true rfl) ⟨by omega, by omega⟩ (Nat.le_of_ble_eq_true rfl) dX13_item_257 (fun u H locs hp hI hz => ?_)
    obtain ⟨w_257, rfl⟩ : ∃ z, z = u := ⟨_, rfl⟩
    have hI := wI_w app3.symm hI
    have hI : wI E AR sR H locs (rdO E o tq sz (adn 10) (atC b sz (nx b sz a)) (fr b sz (nx b sz a)) (wdR E b sz (nx b sz a) w_257) (nuC b sz (nx b sz a)) ++ (tpW E tq fT ++ (wdW E b sz (nx b sz a) w_257 ++ (tW E adn (va_up (va_up (va_up ivn 3 (nI n)) 4 (nI st)) 5 (nI mm)) hrn csn (sK K))))) := hI
    have hI : wI E AR sR _ _ (rdO E o tq sz (adn 10) (atC b sz (nx b sz a)) (fr b sz (nx b sz a)) (wdR E b sz (nx b sz a) w_257) (nuC b sz (nx b sz a)) ++ (tW E adn (va_up (va_up (va_up ivn 3 (nI n)) 4 (nI st)) 5 (nI mm)) hrn csn (sK K) ++ (tpW E tq fT ++ (wdW E b sz (nx b sz a) w_257)))) := wI_pick ([rdO E o tq sz (adn 10) (atC b sz (nx b sz a)) (fr b sz (nx b sz a)) (wdR E b sz (nx b sz a) w_257) (nuC b sz (nx b sz a)), tpW E tq fT, wdW E b sz (nx b sz a) w_257, tW E adn (va_up (va_up (va_up ivn 3 (nI n)) 4 (nI st)) 5 (nI mm)) hrn csn (sK K)]) [0, 3, 1, 2] 4 rfl (by decide) hI
    have hp : wOk b sz (nx b sz a) w_257 := hp
    have hw_257 := hp
    refine lv_aload_n hxR hbR dX13_item_260 rfl (lv_at hl 2 rfl) ?_
    refine kVIX (n := 0) (As := []) (rest := []) (fun w => w) hxR hbR hmlR hts hown hK hA hl.1 isCtx.id hI (c13_one l E o tq adn (va_up (va_up (va_up ivn 3 (nI n)) 4 (nI st)) 5 (nI mm)) hrn csn fT b sz (nx b sz a) w_257 K n hlt htp hsz hna hw_257 (up_n (by decide) (up_n (by decide) va_up_s)) hn7) (lw_V q1129 q1131 qs14 q107 q1132) ⟨rfl, by decide +kernel⟩ 0 12 rfl rfl (he_l rfl) rfl (Nat.le_of_ble_eq_true rfl) (Nat.le_of_ble_eq_true rfl) ⟨by omega, by omega⟩ (Nat.le_of_ble_eq_true rfl) dX13_item_261 (fun En ce_261 q_261 u H locs hX hI hz hq1 hq2 hq3 => ?_) (fun r_261 u H locs hp hI hz => ?_)
    · skip
      have hI : wI E AR sR H locs (tpW E tq fT ++ ([(q_261, .inr (13, [.null, .null, .null, .null, .null, .int 0, .int (nI (fr b sz (nx b sz a)))]))])) := hI
      have hX : En = "ThreeStrangers$Fault" ∧ numE b sz (nx b sz a) 0 ((n : Int) - 1) = .error (fr b sz (nx b sz a)) := hX
      obtain ⟨rfl, hok_261⟩ := hX
      exact hthr (fr b sz (nx b sz a)) _ _ _ _ _ _ _ _ _ _ hq1 hq2 hq3 hI ⟨rfl, (by rw [stm_w3 hW, twoE_1 hok_261])⟩ (by omega) (by omega)
    · skip
      obtain ⟨w2_261, rfl⟩ : ∃ z, z = u := ⟨_, rfl⟩
      have hI : wI E AR sR H locs (rdO E o tq sz (adn 10) (atC b sz (nx b sz (nx b sz a))) (fr b sz (nx b sz (nx b sz a))) (wdR E b sz (nx b sz (nx b sz a)) w2_261) (nuC b sz (nx b sz (nx b sz a))) ++ (tW E adn (va_up (va_up (va_up ivn 3 (nI n)) 4 (nI st)) 5 (nI mm)) hrn csn (sK K) ++ (tpW E tq fT ++ (wdW E b sz (nx b sz (nx b sz a)) w2_261)))) := hI
      have hp : r_261 = nI (fg b sz (nx b sz a)) ∧ numE b sz (nx b sz a) 0 ((n : Int) - 1) = .ok (fg b sz (nx b sz a), nx b sz (nx b sz a)) ∧ wOk b sz (nx b sz (nx b sz a)) w2_261 := hp
      obtain ⟨rfl, hok_261, hw_261⟩ := hp
      have hx1 := numE_ok hok_261
      have hgt1 := nx_gt (b := b) (a := nx b sz a) (by rw [hx1.1]; decide) hna
      refine lv_istore_n (lv' := [(3, .int (nI (fg b sz (nx b sz a)))), (2, .int 2), (1, .ref wz.1), (0, .ref o)]) hxR hbR dX13_item_264 rfl hl (by decide) rfl (fun ls hl => ?_)
      refine lv_aload_n hxR hbR dX13_item_265 rfl (lv_at hl 3 rfl) ?_
      refine r_get hxR hbR hts hown hK hI okX13 (ci := 12) rfl 0 (he_l rfl) 2 (by decide) q806 rfl (v := .ref (adn 10)) rfl dX13_item_266 ?_
      refine lv_iload_n hxR hbR dX13_item_269 rfl (lv_at hl 0 rfl) ?_
      refine lv_aload_n hxR hbR dX13_item_270 rfl (lv_at hl 3 rfl) ?_
      refine lv_iload_n hxR hbR dX13_item_271 rfl (lv_at hl 0 rfl) ?_
      refine kVIX (n := 1) (As := [.int (nI (fg b sz (nx b sz a)))]) (rest := [.int (nI (fg b sz (nx b sz a))), .ref (adn 10)]) (fun w => w) hxR hbR hmlR hts hown hK hA hl.1 isCtx.id hI (c13_other l E o tq adn (va_up (va_up (va_up ivn 3 (nI n)) 4 (nI st)) 5 (nI mm)) hrn csn fT b sz (nx b sz (nx b sz a)) w2_261 K n (fg b sz (nx b sz a)) hlt htp hsz hna2 hw_261 (up_n (by decide) (up_n (by decide) va_up_s)) hn7 (by omega)) (lw_V q1133 q1135 qs15 q107 q1136) ⟨rfl, by decide +kernel⟩ 0 12 rfl rfl (he_l rfl) rfl (Nat.le_of_ble_eq_true rfl) (Nat.le_of_ble_eq_true rfl) ⟨by omega, by omega⟩ (Nat.le_of_ble_eq_true rfl) dX13_item_272 (fun En ce_272 q_272 u H locs hX hI hz hq1 hq2 hq3 => ?_) (fun r_272 u H locs hp hI hz => ?_)
      · skip
        have hI : wI E AR sR H locs (tpW E tq fT ++ ([(q_272, .inr (13, [.null, .null, .null, .null, .null, .int 0, .int (nI (fr b sz (nx b sz (nx b sz a))))]))])) := hI
        have hX : En = "ThreeStrangers$Fault" ∧ ((kd b sz (nx b sz (nx b sz a)) = 2 ∧ fg b sz (nx b sz (nx b sz a)) = (fg b sz (nx b sz a))) ∨ (¬ (kd b sz (nx b sz (nx b sz a)) = 2 ∧ fg b sz (nx b sz (nx b sz a)) = (fg b sz (nx b sz a))) ∧ numE b sz (nx b sz (nx b sz a)) 0 ((n : Int) - 1) = .error (fr b sz (nx b sz (nx b sz a))))) := hX
        obtain ⟨rfl, hok_272⟩ := hX
        have hok9 : twoE b sz n a = .error (fr b sz (nx b sz (nx b sz a))) := by
          rcases hok_272 with h9 | ⟨h9, h8⟩
          · exact twoE_2 hok_261 h9.1 h9.2
          · exact twoE_3 hok_261 h9 h8
        exact hthr (fr b sz (nx b sz (nx b sz a))) _ _ _ _ _ _ _ _ _ _ hq1 hq2 hq3 hI ⟨rfl, (by rw [stm_w3 hW, hok9])⟩ (by omega) (by omega)
      · skip
        obtain ⟨w2_272, rfl⟩ : ∃ z, z = u := ⟨_, rfl⟩
        have hI : wI E AR sR H locs (rdO E o tq sz (adn 10) (atC b sz (nx b sz (nx b sz (nx b sz a)))) (fr b sz (nx b sz (nx b sz (nx b sz a)))) (wdR E b sz (nx b sz (nx b sz (nx b sz a))) w2_272) (nuC b sz (nx b sz (nx b sz (nx b sz a)))) ++ (tW E adn (va_up (va_up (va_up ivn 3 (nI n)) 4 (nI st)) 5 (nI mm)) hrn csn (sK K) ++ (tpW E tq fT ++ (wdW E b sz (nx b sz (nx b sz (nx b sz a))) w2_272)))) := hI
        have hp : r_272 = nI (fg b sz (nx b sz (nx b sz a))) ∧ ¬ (kd b sz (nx b sz (nx b sz a)) = 2 ∧ fg b sz (nx b sz (nx b sz a)) = (fg b sz (nx b sz a))) ∧ numE b sz (nx b sz (nx b sz a)) 0 ((n : Int) - 1) = .ok (fg b sz (nx b sz (nx b sz a)), nx b sz (nx b sz (nx b sz a))) ∧ wOk b sz (nx b sz (nx b sz (nx b sz a))) w2_272 := hp
        obtain ⟨rfl, hne_272, hok_272, hw_272⟩ := hp
        have hx2 := numE_ok hok_272
        have hgt2 := nx_gt (b := b) (a := nx b sz (nx b sz a)) (by rw [hx2.1]; decide) hna2
        refine lv_iconst (v := (-1)) hxR hbR dX13_item_275 (by decide) ?_
        refine kVV (n := 3) (As := [.int (nI (fg b sz (nx b sz a))), .int (nI (fg b sz (nx b sz (nx b sz a)))), .int (-1)]) (rest := []) (fun w => (rdO E o tq sz (adn 10) (atC b sz (nx b sz (nx b sz (nx b sz a)))) (fr b sz (nx b sz (nx b sz (nx b sz a)))) (wdR E b sz (nx b sz (nx b sz (nx b sz a))) w2_272) (nuC b sz (nx b sz (nx b sz (nx b sz a))))) ++ (w ++ (tpW E tq fT ++ (wdW E b sz (nx b sz (nx b sz (nx b sz a))) w2_272)))) hxR hbR hmlR hts hown hK hA hl.1 (isCtx.mk _ _) hI (c1_knows l E adn (va_up (va_up (va_up ivn 3 (nI n)) 4 (nI st)) 5 (nI mm)) hrn csn K (fg b sz (nx b sz a)) (fg b sz (nx b sz (nx b sz a))) (-1) (by omega) (by omega)) (lw_V q1142 q748 q749 q82 q750) ⟨rfl, by decide +kernel⟩ 0 1 rfl rfl tW_o rfl (Nat.le_of_ble_eq_true rfl) (Nat.le_of_ble_eq_true rfl) ⟨by omega, by omega⟩ (Nat.le_of_ble_eq_true rfl) dX13_item_276 (fun u H locs hp hI hz => ?_)
        have hI : wI E AR sR H locs (rdO E o tq sz (adn 10) (atC b sz (nx b sz (nx b sz (nx b sz a)))) (fr b sz (nx b sz (nx b sz (nx b sz a)))) (wdR E b sz (nx b sz (nx b sz (nx b sz a))) w2_272) (nuC b sz (nx b sz (nx b sz (nx b sz a)))) ++ (tW E adn (va_up (va_up (va_up ivn 3 (nI n)) 4 (nI st)) 5 (nI mm)) hrn csn (sK (knF K (fg b sz (nx b sz a)) (fg b sz (nx b sz (nx b sz a))) (-1))) ++ (tpW E tq fT ++ (wdW E b sz (nx b sz (nx b sz (nx b sz a))) w2_272)))) := hI
        refine lv_goto (tgt := 335) hxR hbR dX13_item_279 (by decide) ?_
        exact hret (n, st, mm, hrn, csn, (knF K (fg b sz (nx b sz a)) (fg b sz (nx b sz (nx b sz a))) (-1)), (nx b sz (nx b sz (nx b sz a))), w2_272) _ _ _ _ _ _ dX13_item_335 hI (by show (stm b sz n st mm hrn csn K a) = .ok ((n, st, mm, hrn, csn, (knF K (fg b sz (nx b sz a)) (fg b sz (nx b sz (nx b sz a))) (-1))), (nx b sz (nx b sz (nx b sz a)))) ∧ wOk b sz (nx b sz (nx b sz (nx b sz a))) w2_272; exact ⟨by rw [stm_w3 hW, (twoE_4 hok_261 hne_272 hok_272)], hw_272⟩) (by omega) (by omega)
  · skip
    have c_111 : ¬ strEq wz.2.2 (nx b sz a - fr b sz a) 3 := eqK_f c_111
    exact absurd ((wOk_isW hw hk_4).mp hW) c_111

set_option maxHeartbeats 8000000 in
theorem c13_item_4 (l : Launch) (E : En) (o : Nat) (tq : Nat) (adn : Nat → Nat) (ivn : Nat → Int32) (hrn : Nat → Int32) (csn : Nat → Int32) (fT : Nat → Int32)  (b : Nat → Nat) (sz a : Nat)(wz : WD) (K : Nat → Nat → Int32) (n st mm : Nat)  (hlt : l.stackTraces = false) (htp : tpOk fT b sz) (hsz : sz ≤ 250) (ha : a ≤ sz) (hw : wOk b sz a wz) (hn : ivn 3 = nI n) (hst : ivn 4 = nI st) (hmm : ivn 5 = nI mm) (hn7 : n ≤ 7) (hW : isW b sz a 4 = true) : XtV l E yX13_item (ws_ yX13_item cX13_item 5 none) 11 (4 * coE b sz a (stm b sz n st mm hrn csn K a)) (1024 * coE b sz a (stm b sz n st mm hrn csn K a)) [.ref o] (rdO E o tq sz (adn 10) (atC b sz a) (fr b sz a) (wdR E b sz a wz) (nuC b sz a) ++ (tW E adn ivn hrn csn (sK K) ++ (tpW E tq fT ++ (wdW E b sz a wz)))) (fun (u : Nat × Nat × Nat × (Nat → Int32) × (Nat → Int32) × (Nat → Nat → Int32) × Nat × WD) => (stm b sz n st mm hrn csn K a) = .ok ((u.1, u.2.1, u.2.2.1, u.2.2.2.1, u.2.2.2.2.1, u.2.2.2.2.2.1), u.2.2.2.2.2.2.1) ∧ wOk b sz u.2.2.2.2.2.2.1 u.2.2.2.2.2.2.2) (fun (u : Nat × Nat × Nat × (Nat → Int32) × (Nat → Int32) × (Nat → Nat → Int32) × Nat × WD) => rdO E o tq sz (adn 10) (atC b sz u.2.2.2.2.2.2.1) (fr b sz u.2.2.2.2.2.2.1) (wdR E b sz u.2.2.2.2.2.2.1 u.2.2.2.2.2.2.2) (nuC b sz u.2.2.2.2.2.2.1) ++ (tW E adn (va_up (va_up (va_up ivn 3 (nI u.1)) 4 (nI u.2.1)) 5 (nI u.2.2.1)) u.2.2.2.1 u.2.2.2.2.1 (sK u.2.2.2.2.2.1) ++ (tpW E tq fT ++ (wdW E b sz u.2.2.2.2.2.2.1 u.2.2.2.2.2.2.2)))) (fun (En : String) (u : Nat) => En = "ThreeStrangers$Fault" ∧ (stm b sz n st mm hrn csn K a) = .error u) (fun (u : Nat) (q : Nat) => tpW E tq fT ++ ([(q, .inr (13, [.null, .null, .null, .null, .null, .int 0, .int (nI u)]))])) := by
  have hna := nx_le (b := b) ha
  have hna2 := nx_le (b := b) hna
  have hna3 := nx_le (b := b) hna2
  have hg1 := nx2_le (b := b) ha
  have hg2 := nx2_le (b := b) hna
  have hna4 := nx_le (b := b) hna3
  have hna5 := nx_le (b := b) hna4
  have hna6 := nx_le (b := b) hna5
  have hg3 := nx2_le (b := b) hna2
  have hg4 := nx2_le (b := b) hna3
  have hg5 := nx2_le (b := b) hna4
  have hfa := fr_ge (b := b) (sz := sz) (a := a)
  have hfn := nx_ge (b := b) (sz := sz) (a := a)
  refine XtV.of (by decide +kernel) (Nat.le_of_ble_eq_true rfl) ?_
  intro pR eR sR mR aR bR tR cR AR ls QR hxR hbR hmlR hts hown hlk hnm hA hK hI hl hret hthr
  have hl : lv_has ls 5 [(0, .ref o)] := hl
  have hI := wI_w (ws' := rdO E o tq sz (adn 10) (atC b sz a) (fr b sz a) (wdR E b sz a wz) (nuC b sz a) ++ (tW E adn (va_up ivn 3 (nI n)) hrn csn (sK K) ++ (tpW E tq fT ++ (wdW E b sz a wz)))) (by rw [va_up_id (f := ivn) (k := 3) (v := nI n) hn]) hI
  have hI := wI_w (ws' := rdO E o tq sz (adn 10) (atC b sz a) (fr b sz a) (wdR E b sz a wz) (nuC b sz a) ++ (tW E adn (va_up (va_up ivn 3 (nI n)) 4 (nI st)) hrn csn (sK K) ++ (tpW E tq fT ++ (wdW E b sz a wz)))) (by rw [va_up_id (f := (va_up ivn 3 (nI n))) (k := 4) (v := nI st) (up_n (by decide) hst)]) hI
  have hI := wI_w (ws' := rdO E o tq sz (adn 10) (atC b sz a) (fr b sz a) (wdR E b sz a wz) (nuC b sz a) ++ (tW E adn (va_up (va_up (va_up ivn 3 (nI n)) 4 (nI st)) 5 (nI mm)) hrn csn (sK K) ++ (tpW E tq fT ++ (wdW E b sz a wz)))) (by rw [va_up_id (f := (va_up (va_up ivn 3 (nI n)) 4 (nI st))) (k := 5) (v := nI mm) (up_n (by decide) (up_n (by decide) hmm))]) hI
  refine lv_aload_n hxR hbR dX13_item_0 rfl (lv_at hl 0 rfl) ?_
  refine r_get hxR hbR hts hown hK hI okX13 (ci := 12) rfl 0 (he_l rfl) 5 (by decide) q810 rfl (v := va_rf (wdR E b sz a wz)) rfl dX13_item_1 ?_
  have hk_4 : kd b sz a = 1 := isW_k hW
  rw [wdR_1 hk_4]
  have hI := wI_w (ws' := rdO E o tq sz (adn 10) (atC b sz a) (fr b sz a) (some (wz.1)) (nuC b sz a) ++ (tW E adn (va_up (va_up (va_up ivn 3 (nI n)) 4 (nI st)) 5 (nI mm)) hrn csn (sK K) ++ (tpW E tq fT ++ (strH E wz.1 wz.2.1 (nx b sz a - fr b sz a) wz.2.2 0 0)))) (by rw [wdR_1 hk_4, wdW_1 hk_4]) hI
  refine lv_ifnonnull (tgt := 12) hxR hbR dX13_item_4 (by decide) ?_
  refine lv_aload_n hxR hbR dX13_item_12 rfl (lv_at hl 0 rfl) ?_
  refine r_get hxR hbR hts hown hK hI okX13 (ci := 12) rfl 0 (he_l rfl) 5 (by decide) q810 rfl (v := .ref wz.1) rfl dX13_item_13 ?_
  refine lv_astore_n (lv' := [(1, .ref wz.1), (0, .ref o)]) hxR hbR dX13_item_16 rfl hl (by decide) rfl (fun ls hl => ?_)
  refine lv_iconst (v := (-1)) hxR hbR dX13_item_17 (by decide) ?_
  refine lv_istore_n (lv' := [(2, .int (-1)), (1, .ref wz.1), (0, .ref o)]) hxR hbR dX13_item_18 rfl hl (by decide) rfl (fun ls hl => ?_)
  refine lv_aload_n hxR hbR dX13_item_19 rfl (lv_at hl 1 rfl) ?_
  have hwl := nx1_lt hk_4 ha
  have hI := wI_w app3 hI
  refine kVI (n := 0) (As := []) (rest := []) (fun w => (rdO E o tq sz (adn 10) (atC b sz a) (fr b sz a) (some (wz.1)) (nuC b sz a) ++ (tW E adn (va_up (va_up (va_up ivn 3 (nI n)) 4 (nI st)) 5 (nI mm)) hrn csn (sK K) ++ (tpW E tq fT))) ++ w) hxR hbR hmlR hts hown hK hA hl.1 (isCtx.pre _) hI (j4_hashCode l E wz.1 wz.2.1 (nx b sz a - fr b sz a) wz.2.2  (by omega) (by omega)) (lw_V q1053 q1054 q1055 q91 q1056) ⟨rfl, by decide +kernel⟩ 0 15 rfl rfl rfl rfl (Nat.le_of_ble_eq_true rfl) (Nat.le_of_ble_eq_true rfl) ⟨by omega, by omega⟩ (Nat.le_of_ble_eq_true rfl) dX13_item_20 (fun r_20 u H locs hp hI hz => ?_)
  obtain ⟨h9_20, z9_20⟩ := u
  have hI := wI_w app3.symm hI
  have hI : wI E AR sR H locs (rdO E o tq sz (adn 10) (atC b sz a) (fr b sz a) (some (wz.1)) (nuC b sz a) ++ (tW E adn (va_up (va_up (va_up ivn 3 (nI n)) 4 (nI st)) 5 (nI mm)) hrn csn (sK K) ++ (tpW E tq fT ++ (strH E wz.1 wz.2.1 (nx b sz a - fr b sz a) wz.2.2 h9_20 z9_20)))) := hI
  have hp : r_20 = hshF wz.2.2 (nx b sz a - fr b sz a) := hp
  have hr_20 := hp
  subst hr_20
  have ck_5 : hshF wz.2.2 (nx b sz a - fr b sz a) = 109310734 := (hsh_K (i := 4) (by decide) ((wOk_isW hw hk_4).mp hW)).trans (by decide +kernel)
  refine lv_lookup (off := 99) (tgt := 122) hxR hbR dX13_item_23 (by decide) (by rw [ck_5]; decide) (by decide) ?_
  refine lv_aload_n hxR hbR dX13_item_122 rfl (lv_at hl 1 rfl) ?_
  refine va_ldcS hxR hbR hown (hK.2.2.2.1 ("ThreeStrangers$Reader", 111, "seats", 4) (by decide)) dX13_item_123 ?_
  have hI := wI_w app3 hI
  refine kVI (n := 1) (As := [.ref (E.1.2.1 4)]) (rest := []) (fun w => (rdO E o tq sz (adn 10) (atC b sz a) (fr b sz a) (some (wz.1)) (nuC b sz a) ++ (tW E adn (va_up (va_up (va_up ivn 3 (nI n)) 4 (nI st)) 5 (nI mm)) hrn csn (sK K) ++ (tpW E tq fT))) ++ w) hxR hbR hmlR hts hown hK hA hl.1 (isCtx.pre _) hI (j4_equals l E wz.1 wz.2.1 (nx b sz a - fr b sz a) wz.2.2 h9_20 z9_20 4 (by decide) (by omega)) (lw_V q1107 q1108 q1109 q91 q1110) ⟨rfl, by decide +kernel⟩ 0 15 rfl rfl rfl rfl (Nat.le_of_ble_eq_true rfl) (Nat.le_of_ble_eq_true rfl) ⟨by omega, by omega⟩ (Nat.le_of_ble_eq_true rfl) dX13_item_125 (fun r_125 u H locs hp hI hz => ?_)
  have hI := wI_w app3.symm hI
  have hI : wI E AR sR H locs (rdO E o tq sz (adn 10) (atC b sz a) (fr b sz a) (some (wz.1)) (nuC b sz a) ++ (tW E adn (va_up (va_up (va_up ivn 3 (nI n)) 4 (nI st)) 5 (nI mm)) hrn csn (sK K) ++ (tpW E tq fT ++ (strH E wz.1 wz.2.1 (nx b sz a - fr b sz a) wz.2.2 h9_20 z9_20)))) := hI
  have hp : r_125 = b2i (eqK wz.2.2 (nx b sz a - fr b sz a) 4) := hp
  have hr_125 := hp
  rcases b2i_cases hr_125 with ⟨c_125, rfl⟩ | ⟨c_125, rfl⟩
  · skip
    have c_125 : strEq wz.2.2 (nx b sz a - fr b sz a) 4 := eqK_t c_125
    have hlen := isW_ln hW
    have hlen : nx b sz a - fr b sz a = 5 := hlen
    have hco : (nx b sz (nx b sz a) - a) + (nx b sz (nx b sz (nx b sz a)) - nx b sz a) ≤ coE b sz a (stm b sz n st mm hrn csn K a) := coE_ge (fun v q e => by have h9 := co_w4 hW e; rw [h9]; exact Nat.le_refl _) (by omega)
    refine lv_if_eq (tgt := 161) hxR hbR dX13_item_128 (by decide) (fun c => absurd c (by decide)) (fun _ => ?_)
    refine lv_iconst (v := 3) hxR hbR dX13_item_131 (by decide) ?_
    refine lv_istore_n (lv' := [(2, .int 3), (1, .ref wz.1), (0, .ref o)]) hxR hbR dX13_item_132 rfl hl (by decide) rfl (fun ls hl => ?_)
    refine lv_goto (tgt := 161) hxR hbR dX13_item_133 (by decide) ?_
    refine lv_iload_n hxR hbR dX13_item_161 rfl (lv_at hl 0 rfl) ?_
    refine lv_tableIn (tgt := 282) hxR hbR dX13_item_162 (by decide) (by decide) rfl (by decide) ?_
    refine lv_aload_n hxR hbR dX13_item_282 rfl (lv_at hl 2 rfl) ?_
    have hat : atC b sz a = nx b sz a := atC_k hk_4 (by decide)
    have hI : wI E AR sR _ _ (strH E wz.1 wz.2.1 (nx b sz a - fr b sz a) wz.2.2 h9_20 z9_20 ++ (rdO E o tq sz (adn 10) (atC b sz a) (fr b sz a) (some (wz.1)) (nuC b sz a) ++ (tW E adn (va_up (va_up (va_up ivn 3 (nI n)) 4 (nI st)) 5 (nI mm)) hrn csn (sK K) ++ (tpW E tq fT)))) := wI_pick ([rdO E o tq sz (adn 10) (atC b sz a) (fr b sz a) (some (wz.1)) (nuC b sz a), tW E adn (va_up (va_up (va_up ivn 3 (nI n)) 4 (nI st)) 5 (nI mm)) hrn csn (sK K), tpW E tq fT, strH E wz.1 wz.2.1 (nx b sz a - fr b sz a) wz.2.2 h9_20 z9_20]) [3, 0, 1, 2] 4 rfl (by decide) hI
    have hI := wI_dropL hI
    have hI : wI E AR sR _ _ (rdO E o tq sz (adn 10) (atC b sz a) (fr b sz a) (some (wz.1)) (nuC b sz a) ++ (tW E adn (va_up (va_up (va_up ivn 3 (nI n)) 4 (nI st)) 5 (nI mm)) hrn csn (sK K) ++ (tpW E tq fT))) := hI
    have hI := wI_w (ws' := rdO E o tq sz (adn 10) (nx b sz a) (fr b sz a) (some (wz.1)) (nuC b sz a) ++ (tW E adn (va_up (va_up (va_up ivn 3 (nI n)) 4 (nI st)) 5 (nI mm)) hrn csn (sK K) ++ (tpW E tq fT ++ (([] : va_W))))) (by rw [hat, List.append_nil]) hI
    have hI : wI E AR sR _ _ (rdO E o tq sz (adn 10) (nx b sz a) (fr b sz a) (some (wz.1)) (nuC b sz a) ++ (tpW E tq fT ++ (([] : va_W) ++ (tW E adn (va_up (va_up (va_up ivn 3 (nI n)) 4 (nI st)) 5 (nI mm)) hrn csn (sK K))))) := wI_pick ([rdO E o tq sz (adn 10) (nx b sz a) (fr b sz a) (some (wz.1)) (nuC b sz a), tW E adn (va_up (va_up (va_up ivn 3 (nI n)) 4 (nI st)) 5 (nI mm)) hrn csn (sK K), tpW E tq fT, ([] : va_W)]) [0, 2, 3, 1] 4 rfl (by decide) hI
    have hI := wI_w app3 hI
    refine kVV (n := 0) (As := []) (rest := []) (fun w => w ++ (tW E adn (va_up (va_up (va_up ivn 3 (nI n)) 4 (nI st)) 5 (nI mm)) hrn csn (sK K))) hxR hbR hmlR hts hown hK hA hl.1 (isCtx.suf _) hI (c13_next l E o tq (adn 10) (fr b sz a) (some (wz.1)) (nuC b sz a) fT b sz (nx b sz a) htp hsz hna) (lw_V q831 q833 qs8 q107 q834) ⟨rfl, by decide +kernel⟩ 0 12 rfl rfl (he_l rfl) rfl (Nat.le_of_ble_eq_true rfl) (Nat.le_of_ble_eq_true rfl) ⟨by omega, by omega⟩ (Nat.le_of_ble_eq_true rfl) dX13_item_283 (fun u H locs hp hI hz => ?_)
    obtain ⟨w_283, rfl⟩ : ∃ z, z = u := ⟨_, rfl⟩
    have hI := wI_w app3.symm hI
    have hI : wI E AR sR H locs (rdO E o tq sz (adn 10) (atC b sz (nx b sz a)) (fr b sz (nx b sz a)) (wdR E b sz (nx b sz a) w_283) (nuC b sz (nx b sz a)) ++ (tpW E tq fT ++ (wdW E b sz (nx b sz a) w_283 ++ (tW E adn (va_up (va_up (va_up ivn 3 (nI n)) 4 (nI st)) 5 (nI mm)) hrn csn (sK K))))) := hI
    have hI : wI E AR sR _ _ (rdO E o tq sz (adn 10) (atC b sz (nx b sz a)) (fr b sz (nx b sz a)) (wdR E b sz (nx b sz a) w_283) (nuC b sz (nx b sz a)) ++ (tW E adn (va_up (va_up (va_up ivn 3 (nI n)) 4 (nI st)) 5 (nI mm)) hrn csn (sK K) ++ (tpW E tq fT ++ (wdW E b sz (nx b sz a) w_283)))) := wI_pick ([rdO E o tq sz (adn 10) (atC b sz (nx b sz a)) (fr b sz (nx b sz a)) (wdR E b sz (nx b sz a) w_283) (nuC b sz (nx b sz a)), tpW E tq fT, wdW E b sz (nx b sz a) w_283, tW E adn (va_up (va_up (va_up ivn 3 (nI n)) 4 (nI st)) 5 (nI mm)) hrn csn (sK K)]) [0, 3, 1, 2] 4 rfl (by decide) hI
    have hp : wOk b sz (nx b sz a) w_283 := hp
    have hw_283 := hp
    refine lv_aload_n hxR hbR dX13_item_286 rfl (lv_at hl 2 rfl) ?_
    refine r_get hxR hbR hts hown hK hI okX13 (ci := 12) rfl 0 (he_l rfl) 2 (by decide) q806 rfl (v := .ref (adn 10)) rfl dX13_item_287 ?_
    refine lv_aload_n hxR hbR dX13_item_290 rfl (lv_at hl 2 rfl) ?_
    refine lv_iconst (v := 2) hxR hbR dX13_item_291 (by decide) ?_
    refine lv_iconst (v := 4) hxR hbR dX13_item_292 (by decide) ?_
    have hI : wI E AR sR _ _ (rdO E o tq sz (adn 10) (atC b sz (nx b sz a)) (fr b sz (nx b sz a)) (wdR E b sz (nx b sz a) w_283) (nuC b sz (nx b sz a)) ++ (tpW E tq fT ++ (wdW E b sz (nx b sz a) w_283 ++ (tW E adn (va_up (va_up (va_up ivn 3 (nI n)) 4 (nI st)) 5 (nI mm)) hrn csn (sK K))))) := wI_pick ([rdO E o tq sz (adn 10) (atC b sz (nx b sz a)) (fr b sz (nx b sz a)) (wdR E b sz (nx b sz a) w_283) (nuC b sz (nx b sz a)), tW E adn (va_up (va_up (va_up ivn 3 (nI n)) 4 (nI st)) 5 (nI mm)) hrn csn (sK K), tpW E tq fT, wdW E b sz (nx b sz a) w_283]) [0, 2, 3, 1] 4 rfl (by decide) hI
    have hI := wI_w app3 hI
    refine kVIX (n := 2) (As := [.int 2, .int 4]) (rest := [.ref (adn 10)]) (fun w => w ++ (tW E adn (va_up (va_up (va_up ivn 3 (nI n)) 4 (nI st)) 5 (nI mm)) hrn csn (sK K))) hxR hbR hmlR hts hown hK hA hl.1 (isCtx.suf _) hI (c13_number l E o tq (adn 10) fT b sz (nx b sz a) w_283 2 4 2 4 hlt htp hsz hna hw_283 rfl rfl (by omega) (by omega)) (lw_V q1124 q1126 qs13 q107 q1127) ⟨rfl, by decide +kernel⟩ 0 12 rfl rfl (he_l rfl) rfl (Nat.le_of_ble_eq_true rfl) (Nat.le_of_ble_eq_true rfl) ⟨by omega, by omega⟩ (Nat.le_of_ble_eq_true rfl) dX13_item_293 (fun En ce_293 q_293 u H locs hX hI hz hq1 hq2 hq3 => ?_) (fun r_293 u H locs hp hI hz => ?_)
    · skip
      have hI := wI_w app2.symm hI
      have hI : wI E AR sR H locs (tpW E tq fT ++ ([(q_293, .inr (13, [.null, .null, .null, .null, .null, .int 0, .int (nI (fr b sz (nx b sz a)))]))] ++ (tW E adn (va_up (va_up (va_up ivn 3 (nI n)) 4 (nI st)) 5 (nI mm)) hrn csn (sK K)))) := hI
      have hI : wI E AR sR _ _ (tW E adn (va_up (va_up (va_up ivn 3 (nI n)) 4 (nI st)) 5 (nI mm)) hrn csn (sK K) ++ (tpW E tq fT ++ ([(q_293, .inr (13, [.null, .null, .null, .null, .null, .int 0, .int (nI (fr b sz (nx b sz a)))]))]))) := wI_pick ([tpW E tq fT, [(q_293, .inr (13, [.null, .null, .null, .null, .null, .int 0, .int (nI (fr b sz (nx b sz a)))]))], tW E adn (va_up (va_up (va_up ivn 3 (nI n)) 4 (nI st)) 5 (nI mm)) hrn csn (sK K)]) [2, 0, 1] 3 rfl (by decide) hI
      have hX : En = "ThreeStrangers$Fault" ∧ numE b sz (nx b sz a) 2 4 = .error (fr b sz (nx b sz a)) := hX
      obtain ⟨rfl, hok_293⟩ := hX
      have hI := wI_dropL hI
      have hI : wI E AR sR _ _ (tpW E tq fT ++ ([(q_293, .inr (13, [.null, .null, .null, .null, .null, .int 0, .int (nI (fr b sz (nx b sz a)))]))])) := hI
      exact hthr (fr b sz (nx b sz a)) _ _ _ _ _ _ _ _ _ _ hq1 hq2 hq3 hI ⟨rfl, (by rw [stm_w4 hW, hok_293])⟩ (by omega) (by omega)
    · skip
      obtain ⟨w2_293, rfl⟩ : ∃ z, z = u := ⟨_, rfl⟩
      have hI := wI_w app3.symm hI
      have hI : wI E AR sR H locs (rdO E o tq sz (adn 10) (atC b sz (nx b sz (nx b sz a))) (fr b sz (nx b sz (nx b sz a))) (wdR E b sz (nx b sz (nx b sz a)) w2_293) (nuC b sz (nx b sz (nx b sz a))) ++ (tpW E tq fT ++ (wdW E b sz (nx b sz (nx b sz a)) w2_293 ++ (tW E adn (va_up (va_up (va_up ivn 3 (nI n)) 4 (nI st)) 5 (nI mm)) hrn csn (sK K))))) := hI
      have hI : wI E AR sR _ _ (rdO E o tq sz (adn 10) (atC b sz (nx b sz (nx b sz a))) (fr b sz (nx b sz (nx b sz a))) (wdR E b sz (nx b sz (nx b sz a)) w2_293) (nuC b sz (nx b sz (nx b sz a))) ++ (tW E adn (va_up (va_up (va_up ivn 3 (nI n)) 4 (nI st)) 5 (nI mm)) hrn csn (sK K) ++ (tpW E tq fT ++ (wdW E b sz (nx b sz (nx b sz a)) w2_293)))) := wI_pick ([rdO E o tq sz (adn 10) (atC b sz (nx b sz (nx b sz a))) (fr b sz (nx b sz (nx b sz a))) (wdR E b sz (nx b sz (nx b sz a)) w2_293) (nuC b sz (nx b sz (nx b sz a))), tpW E tq fT, wdW E b sz (nx b sz (nx b sz a)) w2_293, tW E adn (va_up (va_up (va_up ivn 3 (nI n)) 4 (nI st)) 5 (nI mm)) hrn csn (sK K)]) [0, 3, 1, 2] 4 rfl (by decide) hI
      have hp : r_293 = nI (fg b sz (nx b sz a)) ∧ numE b sz (nx b sz a) 2 4 = .ok (fg b sz (nx b sz a), nx b sz (nx b sz a)) ∧ wOk b sz (nx b sz (nx b sz a)) w2_293 := hp
      obtain ⟨rfl, hok_293, hw_293⟩ := hp
      refine r_put (v := .int (nI (fg b sz (nx b sz a)))) (ws1 := rdO E o tq sz (adn 10) (atC b sz (nx b sz (nx b sz a))) (fr b sz (nx b sz (nx b sz a))) (wdR E b sz (nx b sz (nx b sz a)) w2_293) (nuC b sz (nx b sz (nx b sz a))) ++ (tW E adn (va_up (va_up (va_up ivn 3 (nI n)) 4 (nI (fg b sz (nx b sz a)))) 5 (nI mm)) hrn csn (sK K) ++ (tpW E tq fT ++ (wdW E b sz (nx b sz (nx b sz a)) w2_293)))) hxR hbR hts hown hK hI okX1 (ci := 1) rfl (1 + 0) (he_r (Nat.le_of_ble_eq_true rfl) (Nat.le_of_ble_eq_true rfl) (he_l tW_o)) 4 (by decide) q147 rfl rfl rfl rfl (Nat.le_of_ble_eq_true rfl) (hw_r (Nat.le_of_ble_eq_true rfl) (Nat.le_of_ble_eq_true rfl) (hw_l (Nat.le_of_ble_eq_true rfl) (Eq.trans tW_i4 (tW_c (up_s (by decide) up_0))))) dX13_item_296 (fun H locs hI => ?_)
      refine lv_goto (tgt := 335) hxR hbR dX13_item_299 (by decide) ?_
      exact hret (n, fg b sz (nx b sz a), mm, hrn, csn, K, (nx b sz (nx b sz a)), w2_293) _ _ _ _ _ _ dX13_item_335 hI (by show (stm b sz n st mm hrn csn K a) = .ok ((n, (fg b sz (nx b sz a)), mm, hrn, csn, K), (nx b sz (nx b sz a))) ∧ wOk b sz (nx b sz (nx b sz a)) w2_293; exact ⟨by rw [stm_w4 hW, hok_293], hw_293⟩) (by omega) (by omega)
  · skip
    have c_125 : ¬ strEq wz.2.2 (nx b sz a - fr b sz a) 4 := eqK_f c_125
    exact absurd ((wOk_isW hw hk_4).mp hW) c_125

set_option maxHeartbeats 8000000 in
theorem c13_item_5 (l : Launch) (E : En) (o : Nat) (tq : Nat) (adn : Nat → Nat) (ivn : Nat → Int32) (hrn : Nat → Int32) (csn : Nat → Int32) (fT : Nat → Int32)  (b : Nat → Nat) (sz a : Nat)(wz : WD) (K : Nat → Nat → Int32) (n st mm : Nat)  (hlt : l.stackTraces = false) (htp : tpOk fT b sz) (hsz : sz ≤ 250) (ha : a ≤ sz) (hw : wOk b sz a wz) (hn : ivn 3 = nI n) (hst : ivn 4 = nI st) (hmm : ivn 5 = nI mm) (hn7 : n ≤ 7) (hW : isW b sz a 5 = true) : XtV l E yX13_item (ws_ yX13_item cX13_item 5 none) 11 (4 * coE b sz a (stm b sz n st mm hrn csn K a)) (1024 * coE b sz a (stm b sz n st mm hrn csn K a)) [.ref o] (rdO E o tq sz (adn 10) (atC b sz a) (fr b sz a) (wdR E b sz a wz) (nuC b sz a) ++ (tW E adn ivn hrn csn (sK K) ++ (tpW E tq fT ++ (wdW E b sz a wz)))) (fun (u : Nat × Nat × Nat × (Nat → Int32) × (Nat → Int32) × (Nat → Nat → Int32) × Nat × WD) => (stm b sz n st mm hrn csn K a) = .ok ((u.1, u.2.1, u.2.2.1, u.2.2.2.1, u.2.2.2.2.1, u.2.2.2.2.2.1), u.2.2.2.2.2.2.1) ∧ wOk b sz u.2.2.2.2.2.2.1 u.2.2.2.2.2.2.2) (fun (u : Nat × Nat × Nat × (Nat → Int32) × (Nat → Int32) × (Nat → Nat → Int32) × Nat × WD) => rdO E o tq sz (adn 10) (atC b sz u.2.2.2.2.2.2.1) (fr b sz u.2.2.2.2.2.2.1) (wdR E b sz u.2.2.2.2.2.2.1 u.2.2.2.2.2.2.2) (nuC b sz u.2.2.2.2.2.2.1) ++ (tW E adn (va_up (va_up (va_up ivn 3 (nI u.1)) 4 (nI u.2.1)) 5 (nI u.2.2.1)) u.2.2.2.1 u.2.2.2.2.1 (sK u.2.2.2.2.2.1) ++ (tpW E tq fT ++ (wdW E b sz u.2.2.2.2.2.2.1 u.2.2.2.2.2.2.2)))) (fun (En : String) (u : Nat) => En = "ThreeStrangers$Fault" ∧ (stm b sz n st mm hrn csn K a) = .error u) (fun (u : Nat) (q : Nat) => tpW E tq fT ++ ([(q, .inr (13, [.null, .null, .null, .null, .null, .int 0, .int (nI u)]))])) := by
  have hna := nx_le (b := b) ha
  have hna2 := nx_le (b := b) hna
  have hna3 := nx_le (b := b) hna2
  have hg1 := nx2_le (b := b) ha
  have hg2 := nx2_le (b := b) hna
  have hna4 := nx_le (b := b) hna3
  have hna5 := nx_le (b := b) hna4
  have hna6 := nx_le (b := b) hna5
  have hg3 := nx2_le (b := b) hna2
  have hg4 := nx2_le (b := b) hna3
  have hg5 := nx2_le (b := b) hna4
  have hfa := fr_ge (b := b) (sz := sz) (a := a)
  have hfn := nx_ge (b := b) (sz := sz) (a := a)
  refine XtV.of (by decide +kernel) (Nat.le_of_ble_eq_true rfl) ?_
  intro pR eR sR mR aR bR tR cR AR ls QR hxR hbR hmlR hts hown hlk hnm hA hK hI hl hret hthr
  have hl : lv_has ls 5 [(0, .ref o)] := hl
  have hI := wI_w (ws' := rdO E o tq sz (adn 10) (atC b sz a) (fr b sz a) (wdR E b sz a wz) (nuC b sz a) ++ (tW E adn (va_up ivn 3 (nI n)) hrn csn (sK K) ++ (tpW E tq fT ++ (wdW E b sz a wz)))) (by rw [va_up_id (f := ivn) (k := 3) (v := nI n) hn]) hI
  have hI := wI_w (ws' := rdO E o tq sz (adn 10) (atC b sz a) (fr b sz a) (wdR E b sz a wz) (nuC b sz a) ++ (tW E adn (va_up (va_up ivn 3 (nI n)) 4 (nI st)) hrn csn (sK K) ++ (tpW E tq fT ++ (wdW E b sz a wz)))) (by rw [va_up_id (f := (va_up ivn 3 (nI n))) (k := 4) (v := nI st) (up_n (by decide) hst)]) hI
  have hI := wI_w (ws' := rdO E o tq sz (adn 10) (atC b sz a) (fr b sz a) (wdR E b sz a wz) (nuC b sz a) ++ (tW E adn (va_up (va_up (va_up ivn 3 (nI n)) 4 (nI st)) 5 (nI mm)) hrn csn (sK K) ++ (tpW E tq fT ++ (wdW E b sz a wz)))) (by rw [va_up_id (f := (va_up (va_up ivn 3 (nI n)) 4 (nI st))) (k := 5) (v := nI mm) (up_n (by decide) (up_n (by decide) hmm))]) hI
  refine lv_aload_n hxR hbR dX13_item_0 rfl (lv_at hl 0 rfl) ?_
  refine r_get hxR hbR hts hown hK hI okX13 (ci := 12) rfl 0 (he_l rfl) 5 (by decide) q810 rfl (v := va_rf (wdR E b sz a wz)) rfl dX13_item_1 ?_
  have hk_4 : kd b sz a = 1 := isW_k hW
  rw [wdR_1 hk_4]
  have hI := wI_w (ws' := rdO E o tq sz (adn 10) (atC b sz a) (fr b sz a) (some (wz.1)) (nuC b sz a) ++ (tW E adn (va_up (va_up (va_up ivn 3 (nI n)) 4 (nI st)) 5 (nI mm)) hrn csn (sK K) ++ (tpW E tq fT ++ (strH E wz.1 wz.2.1 (nx b sz a - fr b sz a) wz.2.2 0 0)))) (by rw [wdR_1 hk_4, wdW_1 hk_4]) hI
  refine lv_ifnonnull (tgt := 12) hxR hbR dX13_item_4 (by decide) ?_
  refine lv_aload_n hxR hbR dX13_item_12 rfl (lv_at hl 0 rfl) ?_
  refine r_get hxR hbR hts hown hK hI okX13 (ci := 12) rfl 0 (he_l rfl) 5 (by decide) q810 rfl (v := .ref wz.1) rfl dX13_item_13 ?_
  refine lv_astore_n (lv' := [(1, .ref wz.1), (0, .ref o)]) hxR hbR dX13_item_16 rfl hl (by decide) rfl (fun ls hl => ?_)
  refine lv_iconst (v := (-1)) hxR hbR dX13_item_17 (by decide) ?_
  refine lv_istore_n (lv' := [(2, .int (-1)), (1, .ref wz.1), (0, .ref o)]) hxR hbR dX13_item_18 rfl hl (by decide) rfl (fun ls hl => ?_)
  refine lv_aload_n hxR hbR dX13_item_19 rfl (lv_at hl 1 rfl) ?_
  have hwl := nx1_lt hk_4 ha
  have hI := wI_w app3 hI
  refine kVI (n := 0) (As := []) (rest := []) (fun w => (rdO E o tq sz (adn 10) (atC b sz a) (fr b sz a) (some (wz.1)) (nuC b sz a) ++ (tW E adn (va_up (va_up (va_up ivn 3 (nI n)) 4 (nI st)) 5 (nI mm)) hrn csn (sK K) ++ (tpW E tq fT))) ++ w) hxR hbR hmlR hts hown hK hA hl.1 (isCtx.pre _) hI (j4_hashCode l E wz.1 wz.2.1 (nx b sz a - fr b sz a) wz.2.2  (by omega) (by omega)) (lw_V q1053 q1054 q1055 q91 q1056) ⟨rfl, by decide +kernel⟩ 0 15 rfl rfl rfl rfl (Nat.le_of_ble_eq_true rfl) (Nat.le_of_ble_eq_true rfl) ⟨by omega, by omega⟩ (Nat.le_of_ble_eq_true rfl) dX13_item_20 (fun r_20 u H locs hp hI hz => ?_)
  obtain ⟨h9_20, z9_20⟩ := u
  have hI := wI_w app3.symm hI
  have hI : wI E AR sR H locs (rdO E o tq sz (adn 10) (atC b sz a) (fr b sz a) (some (wz.1)) (nuC b sz a) ++ (tW E adn (va_up (va_up (va_up ivn 3 (nI n)) 4 (nI st)) 5 (nI mm)) hrn csn (sK K) ++ (tpW E tq fT ++ (strH E wz.1 wz.2.1 (nx b sz a - fr b sz a) wz.2.2 h9_20 z9_20)))) := hI
  have hp : r_20 = hshF wz.2.2 (nx b sz a - fr b sz a) := hp
  have hr_20 := hp
  subst hr_20
  have ck_1 : hshF wz.2.2 (nx b sz a - fr b sz a) = (-1077756671) := (hsh_K (i := 5) (by decide) ((wOk_isW hw hk_4).mp hW)).trans (by decide +kernel)
  refine lv_lookup (off := 113) (tgt := 136) hxR hbR dX13_item_23 (by decide) (by rw [ck_1]; decide) (by decide) ?_
  refine lv_aload_n hxR hbR dX13_item_136 rfl (lv_at hl 1 rfl) ?_
  refine va_ldcS hxR hbR hown (hK.2.2.2.1 ("ThreeStrangers$Reader", 113, "memory", 5) (by decide)) dX13_item_137 ?_
  have hI := wI_w app3 hI
  refine kVI (n := 1) (As := [.ref (E.1.2.1 5)]) (rest := []) (fun w => (rdO E o tq sz (adn 10) (atC b sz a) (fr b sz a) (some (wz.1)) (nuC b sz a) ++ (tW E adn (va_up (va_up (va_up ivn 3 (nI n)) 4 (nI st)) 5 (nI mm)) hrn csn (sK K) ++ (tpW E tq fT))) ++ w) hxR hbR hmlR hts hown hK hA hl.1 (isCtx.pre _) hI (j4_equals l E wz.1 wz.2.1 (nx b sz a - fr b sz a) wz.2.2 h9_20 z9_20 5 (by decide) (by omega)) (lw_V q1107 q1108 q1109 q91 q1110) ⟨rfl, by decide +kernel⟩ 0 15 rfl rfl rfl rfl (Nat.le_of_ble_eq_true rfl) (Nat.le_of_ble_eq_true rfl) ⟨by omega, by omega⟩ (Nat.le_of_ble_eq_true rfl) dX13_item_139 (fun r_139 u H locs hp hI hz => ?_)
  have hI := wI_w app3.symm hI
  have hI : wI E AR sR H locs (rdO E o tq sz (adn 10) (atC b sz a) (fr b sz a) (some (wz.1)) (nuC b sz a) ++ (tW E adn (va_up (va_up (va_up ivn 3 (nI n)) 4 (nI st)) 5 (nI mm)) hrn csn (sK K) ++ (tpW E tq fT ++ (strH E wz.1 wz.2.1 (nx b sz a - fr b sz a) wz.2.2 h9_20 z9_20)))) := hI
  have hp : r_139 = b2i (eqK wz.2.2 (nx b sz a - fr b sz a) 5) := hp
  have hr_139 := hp
  rcases b2i_cases hr_139 with ⟨c_139, rfl⟩ | ⟨c_139, rfl⟩
  · skip
    have c_139 : strEq wz.2.2 (nx b sz a - fr b sz a) 5 := eqK_t c_139
    have hlen := isW_ln hW
    have hlen : nx b sz a - fr b sz a = 6 := hlen
    have hco : (nx b sz (nx b sz a) - a) + (nx b sz (nx b sz (nx b sz a)) - nx b sz a) ≤ coE b sz a (stm b sz n st mm hrn csn K a) := coE_ge (fun v q e => by have h9 := co_w5 hW e; rw [h9]; exact Nat.le_refl _) (by omega)
    refine lv_if_eq (tgt := 161) hxR hbR dX13_item_142 (by decide) (fun c => absurd c (by decide)) (fun _ => ?_)
    refine lv_iconst (v := 4) hxR hbR dX13_item_145 (by decide) ?_
    refine lv_istore_n (lv' := [(2, .int 4), (1, .ref wz.1), (0, .ref o)]) hxR hbR dX13_item_146 rfl hl (by decide) rfl (fun ls hl => ?_)
    refine lv_goto (tgt := 161) hxR hbR dX13_item_147 (by decide) ?_
    refine lv_iload_n hxR hbR dX13_item_161 rfl (lv_at hl 0 rfl) ?_
    refine lv_tableIn (tgt := 302) hxR hbR dX13_item_162 (by decide) (by decide) rfl (by decide) ?_
    refine lv_aload_n hxR hbR dX13_item_302 rfl (lv_at hl 2 rfl) ?_
    have hat : atC b sz a = nx b sz a := atC_k hk_4 (by decide)
    have hI : wI E AR sR _ _ (strH E wz.1 wz.2.1 (nx b sz a - fr b sz a) wz.2.2 h9_20 z9_20 ++ (rdO E o tq sz (adn 10) (atC b sz a) (fr b sz a) (some (wz.1)) (nuC b sz a) ++ (tW E adn (va_up (va_up (va_up ivn 3 (nI n)) 4 (nI st)) 5 (nI mm)) hrn csn (sK K) ++ (tpW E tq fT)))) := wI_pick ([rdO E o tq sz (adn 10) (atC b sz a) (fr b sz a) (some (wz.1)) (nuC b sz a), tW E adn (va_up (va_up (va_up ivn 3 (nI n)) 4 (nI st)) 5 (nI mm)) hrn csn (sK K), tpW E tq fT, strH E wz.1 wz.2.1 (nx b sz a - fr b sz a) wz.2.2 h9_20 z9_20]) [3, 0, 1, 2] 4 rfl (by decide) hI
    have hI := wI_dropL hI
    have hI : wI E AR sR _ _ (rdO E o tq sz (adn 10) (atC b sz a) (fr b sz a) (some (wz.1)) (nuC b sz a) ++ (tW E adn (va_up (va_up (va_up ivn 3 (nI n)) 4 (nI st)) 5 (nI mm)) hrn csn (sK K) ++ (tpW E tq fT))) := hI
    have hI := wI_w (ws' := rdO E o tq sz (adn 10) (nx b sz a) (fr b sz a) (some (wz.1)) (nuC b sz a) ++ (tW E adn (va_up (va_up (va_up ivn 3 (nI n)) 4 (nI st)) 5 (nI mm)) hrn csn (sK K) ++ (tpW E tq fT ++ (([] : va_W))))) (by rw [hat, List.append_nil]) hI
    have hI : wI E AR sR _ _ (rdO E o tq sz (adn 10) (nx b sz a) (fr b sz a) (some (wz.1)) (nuC b sz a) ++ (tpW E tq fT ++ (([] : va_W) ++ (tW E adn (va_up (va_up (va_up ivn 3 (nI n)) 4 (nI st)) 5 (nI mm)) hrn csn (sK K))))) := wI_pick ([rdO E o tq sz (adn 10) (nx b sz a) (fr b sz a) (some (wz.1)) (nuC b sz a), tW E adn (va_up (va_up (va_up ivn 3 (nI n)) 4 (nI st)) 5 (nI mm)) hrn csn (sK K), tpW E tq fT, ([] : va_W)]) [0, 2, 3, 1] 4 rfl (by decide) hI
    have hI := wI_w app3 hI
    refine kVV (n := 0) (As := []) (rest := []) (fun w => w ++ (tW E adn (va_up (va_up (va_up ivn 3 (nI n)) 4 (nI st)) 5 (nI mm)) hrn csn (sK K))) hxR hbR hmlR hts hown hK hA hl.1 (isCtx.suf _) hI (c13_next l E o tq (adn 10) (fr b sz a) (some (wz.1)) (nuC b sz a) fT b sz (nx b sz a) htp hsz hna) (lw_V q831 q833 qs8 q107 q834) ⟨rfl, by decide +kernel⟩ 0 12 rfl rfl (he_l rfl) rfl (Nat.le_of_ble_eq_true rfl) (Nat.le_of_ble_eq_true rfl) ⟨by omega, by omega⟩ (Nat.le_of_ble_eq_true rfl) dX13_item_303 (fun u H locs hp hI hz => ?_)
    obtain ⟨w_303, rfl⟩ : ∃ z, z = u := ⟨_, rfl⟩
    have hI := wI_w app3.symm hI
    have hI : wI E AR sR H locs (rdO E o tq sz (adn 10) (atC b sz (nx b sz a)) (fr b sz (nx b sz a)) (wdR E b sz (nx b sz a) w_303) (nuC b sz (nx b sz a)) ++ (tpW E tq fT ++ (wdW E b sz (nx b sz a) w_303 ++ (tW E adn (va_up (va_up (va_up ivn 3 (nI n)) 4 (nI st)) 5 (nI mm)) hrn csn (sK K))))) := hI
    have hI : wI E AR sR _ _ (rdO E o tq sz (adn 10) (atC b sz (nx b sz a)) (fr b sz (nx b sz a)) (wdR E b sz (nx b sz a) w_303) (nuC b sz (nx b sz a)) ++ (tW E adn (va_up (va_up (va_up ivn 3 (nI n)) 4 (nI st)) 5 (nI mm)) hrn csn (sK K) ++ (tpW E tq fT ++ (wdW E b sz (nx b sz a) w_303)))) := wI_pick ([rdO E o tq sz (adn 10) (atC b sz (nx b sz a)) (fr b sz (nx b sz a)) (wdR E b sz (nx b sz a) w_303) (nuC b sz (nx b sz a)), tpW E tq fT, wdW E b sz (nx b sz a) w_303, tW E adn (va_up (va_up (va_up ivn 3 (nI n)) 4 (nI st)) 5 (nI mm)) hrn csn (sK K)]) [0, 3, 1, 2] 4 rfl (by decide) hI
    have hp : wOk b sz (nx b sz a) w_303 := hp
    have hw_303 := hp
    refine lv_aload_n hxR hbR dX13_item_306 rfl (lv_at hl 2 rfl) ?_
    refine r_get hxR hbR hts hown hK hI okX13 (ci := 12) rfl 0 (he_l rfl) 2 (by decide) q806 rfl (v := .ref (adn 10)) rfl dX13_item_307 ?_
    refine lv_aload_n hxR hbR dX13_item_310 rfl (lv_at hl 2 rfl) ?_
    refine lv_iconst (v := 0) hxR hbR dX13_item_311 (by decide) ?_
    refine lv_bipush (v := 99) hxR hbR dX13_item_312 (by decide) ?_
    have hI : wI E AR sR _ _ (rdO E o tq sz (adn 10) (atC b sz (nx b sz a)) (fr b sz (nx b sz a)) (wdR E b sz (nx b sz a) w_303) (nuC b sz (nx b sz a)) ++ (tpW E tq fT ++ (wdW E b sz (nx b sz a) w_303 ++ (tW E adn (va_up (va_up (va_up ivn 3 (nI n)) 4 (nI st)) 5 (nI mm)) hrn csn (sK K))))) := wI_pick ([rdO E o tq sz (adn 10) (atC b sz (nx b sz a)) (fr b sz (nx b sz a)) (wdR E b sz (nx b sz a) w_303) (nuC b sz (nx b sz a)), tW E adn (va_up (va_up (va_up ivn 3 (nI n)) 4 (nI st)) 5 (nI mm)) hrn csn (sK K), tpW E tq fT, wdW E b sz (nx b sz a) w_303]) [0, 2, 3, 1] 4 rfl (by decide) hI
    have hI := wI_w app3 hI
    refine kVIX (n := 2) (As := [.int 0, .int 99]) (rest := [.ref (adn 10)]) (fun w => w ++ (tW E adn (va_up (va_up (va_up ivn 3 (nI n)) 4 (nI st)) 5 (nI mm)) hrn csn (sK K))) hxR hbR hmlR hts hown hK hA hl.1 (isCtx.suf _) hI (c13_number l E o tq (adn 10) fT b sz (nx b sz a) w_303 0 99 0 99 hlt htp hsz hna hw_303 rfl rfl (by omega) (by omega)) (lw_V q1124 q1126 qs13 q107 q1127) ⟨rfl, by decide +kernel⟩ 0 12 rfl rfl (he_l rfl) rfl (Nat.le_of_ble_eq_true rfl) (Nat.le_of_ble_eq_true rfl) ⟨by omega, by omega⟩ (Nat.le_of_ble_eq_true rfl) dX13_item_314 (fun En ce_314 q_314 u H locs hX hI hz hq1 hq2 hq3 => ?_) (fun r_314 u H locs hp hI hz => ?_)
    · skip
      have hI := wI_w app2.symm hI
      have hI : wI E AR sR H locs (tpW E tq fT ++ ([(q_314, .inr (13, [.null, .null, .null, .null, .null, .int 0, .int (nI (fr b sz (nx b sz a)))]))] ++ (tW E adn (va_up (va_up (va_up ivn 3 (nI n)) 4 (nI st)) 5 (nI mm)) hrn csn (sK K)))) := hI
      have hI : wI E AR sR _ _ (tW E adn (va_up (va_up (va_up ivn 3 (nI n)) 4 (nI st)) 5 (nI mm)) hrn csn (sK K) ++ (tpW E tq fT ++ ([(q_314, .inr (13, [.null, .null, .null, .null, .null, .int 0, .int (nI (fr b sz (nx b sz a)))]))]))) := wI_pick ([tpW E tq fT, [(q_314, .inr (13, [.null, .null, .null, .null, .null, .int 0, .int (nI (fr b sz (nx b sz a)))]))], tW E adn (va_up (va_up (va_up ivn 3 (nI n)) 4 (nI st)) 5 (nI mm)) hrn csn (sK K)]) [2, 0, 1] 3 rfl (by decide) hI
      have hX : En = "ThreeStrangers$Fault" ∧ numE b sz (nx b sz a) 0 99 = .error (fr b sz (nx b sz a)) := hX
      obtain ⟨rfl, hok_314⟩ := hX
      have hI := wI_dropL hI
      have hI : wI E AR sR _ _ (tpW E tq fT ++ ([(q_314, .inr (13, [.null, .null, .null, .null, .null, .int 0, .int (nI (fr b sz (nx b sz a)))]))])) := hI
      exact hthr (fr b sz (nx b sz a)) _ _ _ _ _ _ _ _ _ _ hq1 hq2 hq3 hI ⟨rfl, (by rw [stm_w5 hW, hok_314])⟩ (by omega) (by omega)
    · skip
      obtain ⟨w2_314, rfl⟩ : ∃ z, z = u := ⟨_, rfl⟩
      have hI := wI_w app3.symm hI
      have hI : wI E AR sR H locs (rdO E o tq sz (adn 10) (atC b sz (nx b sz (nx b sz a))) (fr b sz (nx b sz (nx b sz a))) (wdR E b sz (nx b sz (nx b sz a)) w2_314) (nuC b sz (nx b sz (nx b sz a))) ++ (tpW E tq fT ++ (wdW E b sz (nx b sz (nx b sz a)) w2_314 ++ (tW E adn (va_up (va_up (va_up ivn 3 (nI n)) 4 (nI st)) 5 (nI mm)) hrn csn (sK K))))) := hI
      have hI : wI E AR sR _ _ (rdO E o tq sz (adn 10) (atC b sz (nx b sz (nx b sz a))) (fr b sz (nx b sz (nx b sz a))) (wdR E b sz (nx b sz (nx b sz a)) w2_314) (nuC b sz (nx b sz (nx b sz a))) ++ (tW E adn (va_up (va_up (va_up ivn 3 (nI n)) 4 (nI st)) 5 (nI mm)) hrn csn (sK K) ++ (tpW E tq fT ++ (wdW E b sz (nx b sz (nx b sz a)) w2_314)))) := wI_pick ([rdO E o tq sz (adn 10) (atC b sz (nx b sz (nx b sz a))) (fr b sz (nx b sz (nx b sz a))) (wdR E b sz (nx b sz (nx b sz a)) w2_314) (nuC b sz (nx b sz (nx b sz a))), tpW E tq fT, wdW E b sz (nx b sz (nx b sz a)) w2_314, tW E adn (va_up (va_up (va_up ivn 3 (nI n)) 4 (nI st)) 5 (nI mm)) hrn csn (sK K)]) [0, 3, 1, 2] 4 rfl (by decide) hI
      have hp : r_314 = nI (fg b sz (nx b sz a)) ∧ numE b sz (nx b sz a) 0 99 = .ok (fg b sz (nx b sz a), nx b sz (nx b sz a)) ∧ wOk b sz (nx b sz (nx b sz a)) w2_314 := hp
      obtain ⟨rfl, hok_314, hw_314⟩ := hp
      refine r_put (v := .int (nI (fg b sz (nx b sz a)))) (ws1 := rdO E o tq sz (adn 10) (atC b sz (nx b sz (nx b sz a))) (fr b sz (nx b sz (nx b sz a))) (wdR E b sz (nx b sz (nx b sz a)) w2_314) (nuC b sz (nx b sz (nx b sz a))) ++ (tW E adn (va_up (va_up (va_up ivn 3 (nI n)) 4 (nI st)) 5 (nI (fg b sz (nx b sz a)))) hrn csn (sK K) ++ (tpW E tq fT ++ (wdW E b sz (nx b sz (nx b sz a)) w2_314)))) hxR hbR hts hown hK hI okX1 (ci := 1) rfl (1 + 0) (he_r (Nat.le_of_ble_eq_true rfl) (Nat.le_of_ble_eq_true rfl) (he_l tW_o)) 5 (by decide) q150 rfl rfl rfl rfl (Nat.le_of_ble_eq_true rfl) (hw_r (Nat.le_of_ble_eq_true rfl) (Nat.le_of_ble_eq_true rfl) (hw_l (Nat.le_of_ble_eq_true rfl) (Eq.trans tW_i5 (tW_c up_0)))) dX13_item_317 (fun H locs hI => ?_)
      refine lv_goto (tgt := 335) hxR hbR dX13_item_320 (by decide) ?_
      exact hret (n, st, fg b sz (nx b sz a), hrn, csn, K, (nx b sz (nx b sz a)), w2_314) _ _ _ _ _ _ dX13_item_335 hI (by show (stm b sz n st mm hrn csn K a) = .ok ((n, st, (fg b sz (nx b sz a)), hrn, csn, K), (nx b sz (nx b sz a))) ∧ wOk b sz (nx b sz (nx b sz a)) w2_314; exact ⟨by rw [stm_w5 hW, hok_314], hw_314⟩) (by omega) (by omega)
  · skip
    have c_139 : ¬ strEq wz.2.2 (nx b sz a - fr b sz a) 5 := eqK_f c_139
    exact absurd ((wOk_isW hw hk_4).mp hW) c_139

set_option maxHeartbeats 8000000 in
theorem c13_item_6 (l : Launch) (E : En) (o : Nat) (tq : Nat) (adn : Nat → Nat) (ivn : Nat → Int32) (hrn : Nat → Int32) (csn : Nat → Int32) (fT : Nat → Int32)  (b : Nat → Nat) (sz a : Nat)(wz : WD) (K : Nat → Nat → Int32) (n st mm : Nat)  (hlt : l.stackTraces = false) (htp : tpOk fT b sz) (hsz : sz ≤ 250) (ha : a ≤ sz) (hw : wOk b sz a wz) (hn : ivn 3 = nI n) (hst : ivn 4 = nI st) (hmm : ivn 5 = nI mm) (hn7 : n ≤ 7) (hW : isW b sz a 6 = true) : XtV l E yX13_item (ws_ yX13_item cX13_item 5 none) 11 (4 * coE b sz a (stm b sz n st mm hrn csn K a)) (1024 * coE b sz a (stm b sz n st mm hrn csn K a)) [.ref o] (rdO E o tq sz (adn 10) (atC b sz a) (fr b sz a) (wdR E b sz a wz) (nuC b sz a) ++ (tW E adn ivn hrn csn (sK K) ++ (tpW E tq fT ++ (wdW E b sz a wz)))) (fun (u : Nat × Nat × Nat × (Nat → Int32) × (Nat → Int32) × (Nat → Nat → Int32) × Nat × WD) => (stm b sz n st mm hrn csn K a) = .ok ((u.1, u.2.1, u.2.2.1, u.2.2.2.1, u.2.2.2.2.1, u.2.2.2.2.2.1), u.2.2.2.2.2.2.1) ∧ wOk b sz u.2.2.2.2.2.2.1 u.2.2.2.2.2.2.2) (fun (u : Nat × Nat × Nat × (Nat → Int32) × (Nat → Int32) × (Nat → Nat → Int32) × Nat × WD) => rdO E o tq sz (adn 10) (atC b sz u.2.2.2.2.2.2.1) (fr b sz u.2.2.2.2.2.2.1) (wdR E b sz u.2.2.2.2.2.2.1 u.2.2.2.2.2.2.2) (nuC b sz u.2.2.2.2.2.2.1) ++ (tW E adn (va_up (va_up (va_up ivn 3 (nI u.1)) 4 (nI u.2.1)) 5 (nI u.2.2.1)) u.2.2.2.1 u.2.2.2.2.1 (sK u.2.2.2.2.2.1) ++ (tpW E tq fT ++ (wdW E b sz u.2.2.2.2.2.2.1 u.2.2.2.2.2.2.2)))) (fun (En : String) (u : Nat) => En = "ThreeStrangers$Fault" ∧ (stm b sz n st mm hrn csn K a) = .error u) (fun (u : Nat) (q : Nat) => tpW E tq fT ++ ([(q, .inr (13, [.null, .null, .null, .null, .null, .int 0, .int (nI u)]))])) := by
  have hna := nx_le (b := b) ha
  have hna2 := nx_le (b := b) hna
  have hna3 := nx_le (b := b) hna2
  have hg1 := nx2_le (b := b) ha
  have hg2 := nx2_le (b := b) hna
  have hna4 := nx_le (b := b) hna3
  have hna5 := nx_le (b := b) hna4
  have hna6 := nx_le (b := b) hna5
  have hg3 := nx2_le (b := b) hna2
  have hg4 := nx2_le (b := b) hna3
  have hg5 := nx2_le (b := b) hna4
  have hfa := fr_ge (b := b) (sz := sz) (a := a)
  have hfn := nx_ge (b := b) (sz := sz) (a := a)
  refine XtV.of (by decide +kernel) (Nat.le_of_ble_eq_true rfl) ?_
  intro pR eR sR mR aR bR tR cR AR ls QR hxR hbR hmlR hts hown hlk hnm hA hK hI hl hret hthr
  have hl : lv_has ls 5 [(0, .ref o)] := hl
  have hI := wI_w (ws' := rdO E o tq sz (adn 10) (atC b sz a) (fr b sz a) (wdR E b sz a wz) (nuC b sz a) ++ (tW E adn (va_up ivn 3 (nI n)) hrn csn (sK K) ++ (tpW E tq fT ++ (wdW E b sz a wz)))) (by rw [va_up_id (f := ivn) (k := 3) (v := nI n) hn]) hI
  have hI := wI_w (ws' := rdO E o tq sz (adn 10) (atC b sz a) (fr b sz a) (wdR E b sz a wz) (nuC b sz a) ++ (tW E adn (va_up (va_up ivn 3 (nI n)) 4 (nI st)) hrn csn (sK K) ++ (tpW E tq fT ++ (wdW E b sz a wz)))) (by rw [va_up_id (f := (va_up ivn 3 (nI n))) (k := 4) (v := nI st) (up_n (by decide) hst)]) hI
  have hI := wI_w (ws' := rdO E o tq sz (adn 10) (atC b sz a) (fr b sz a) (wdR E b sz a wz) (nuC b sz a) ++ (tW E adn (va_up (va_up (va_up ivn 3 (nI n)) 4 (nI st)) 5 (nI mm)) hrn csn (sK K) ++ (tpW E tq fT ++ (wdW E b sz a wz)))) (by rw [va_up_id (f := (va_up (va_up ivn 3 (nI n)) 4 (nI st))) (k := 5) (v := nI mm) (up_n (by decide) (up_n (by decide) hmm))]) hI
  refine lv_aload_n hxR hbR dX13_item_0 rfl (lv_at hl 0 rfl) ?_
  refine r_get hxR hbR hts hown hK hI okX13 (ci := 12) rfl 0 (he_l rfl) 5 (by decide) q810 rfl (v := va_rf (wdR E b sz a wz)) rfl dX13_item_1 ?_
  have hk_4 : kd b sz a = 1 := isW_k hW
  rw [wdR_1 hk_4]
  have hI := wI_w (ws' := rdO E o tq sz (adn 10) (atC b sz a) (fr b sz a) (some (wz.1)) (nuC b sz a) ++ (tW E adn (va_up (va_up (va_up ivn 3 (nI n)) 4 (nI st)) 5 (nI mm)) hrn csn (sK K) ++ (tpW E tq fT ++ (strH E wz.1 wz.2.1 (nx b sz a - fr b sz a) wz.2.2 0 0)))) (by rw [wdR_1 hk_4, wdW_1 hk_4]) hI
  refine lv_ifnonnull (tgt := 12) hxR hbR dX13_item_4 (by decide) ?_
  refine lv_aload_n hxR hbR dX13_item_12 rfl (lv_at hl 0 rfl) ?_
  refine r_get hxR hbR hts hown hK hI okX13 (ci := 12) rfl 0 (he_l rfl) 5 (by decide) q810 rfl (v := .ref wz.1) rfl dX13_item_13 ?_
  refine lv_astore_n (lv' := [(1, .ref wz.1), (0, .ref o)]) hxR hbR dX13_item_16 rfl hl (by decide) rfl (fun ls hl => ?_)
  refine lv_iconst (v := (-1)) hxR hbR dX13_item_17 (by decide) ?_
  refine lv_istore_n (lv' := [(2, .int (-1)), (1, .ref wz.1), (0, .ref o)]) hxR hbR dX13_item_18 rfl hl (by decide) rfl (fun ls hl => ?_)
  refine lv_aload_n hxR hbR dX13_item_19 rfl (lv_at hl 1 rfl) ?_
  have hwl := nx1_lt hk_4 ha
  have hI := wI_w app3 hI
  refine kVI (n := 0) (As := []) (rest := []) (fun w => (rdO E o tq sz (adn 10) (atC b sz a) (fr b sz a) (some (wz.1)) (nuC b sz a) ++ (tW E adn (va_up (va_up (va_up ivn 3 (nI n)) 4 (nI st)) 5 (nI mm)) hrn csn (sK K) ++ (tpW E tq fT))) ++ w) hxR hbR hmlR hts hown hK hA hl.1 (isCtx.pre _) hI (j4_hashCode l E wz.1 wz.2.1 (nx b sz a - fr b sz a) wz.2.2  (by omega) (by omega)) (lw_V q1053 q1054 q1055 q91 q1056) ⟨rfl, by decide +kernel⟩ 0 15 rfl rfl rfl rfl (Nat.le_of_ble_eq_true rfl) (Nat.le_of_ble_eq_true rfl) ⟨by omega, by omega⟩ (Nat.le_of_ble_eq_true rfl) dX13_item_20 (fun r_20 u H locs hp hI hz => ?_)
  obtain ⟨h9_20, z9_20⟩ := u
  have hI := wI_w app3.symm hI
  have hI : wI E AR sR H locs (rdO E o tq sz (adn 10) (atC b sz a) (fr b sz a) (some (wz.1)) (nuC b sz a) ++ (tW E adn (va_up (va_up (va_up ivn 3 (nI n)) 4 (nI st)) 5 (nI mm)) hrn csn (sK K) ++ (tpW E tq fT ++ (strH E wz.1 wz.2.1 (nx b sz a - fr b sz a) wz.2.2 h9_20 z9_20)))) := hI
  have hp : r_20 = hshF wz.2.2 (nx b sz a - fr b sz a) := hp
  have hr_20 := hp
  subst hr_20
  have ck_3 : hshF wz.2.2 (nx b sz a - fr b sz a) = 107996 := (hsh_K (i := 6) (by decide) ((wOk_isW hw hk_4).mp hW)).trans (by decide +kernel)
  refine lv_lookup (off := 127) (tgt := 150) hxR hbR dX13_item_23 (by decide) (by rw [ck_3]; decide) (by decide) ?_
  refine lv_aload_n hxR hbR dX13_item_150 rfl (lv_at hl 1 rfl) ?_
  refine va_ldcS hxR hbR hown (hK.2.2.2.1 ("ThreeStrangers$Reader", 115, "met", 6) (by decide)) dX13_item_151 ?_
  have hI := wI_w app3 hI
  refine kVI (n := 1) (As := [.ref (E.1.2.1 6)]) (rest := []) (fun w => (rdO E o tq sz (adn 10) (atC b sz a) (fr b sz a) (some (wz.1)) (nuC b sz a) ++ (tW E adn (va_up (va_up (va_up ivn 3 (nI n)) 4 (nI st)) 5 (nI mm)) hrn csn (sK K) ++ (tpW E tq fT))) ++ w) hxR hbR hmlR hts hown hK hA hl.1 (isCtx.pre _) hI (j4_equals l E wz.1 wz.2.1 (nx b sz a - fr b sz a) wz.2.2 h9_20 z9_20 6 (by decide) (by omega)) (lw_V q1107 q1108 q1109 q91 q1110) ⟨rfl, by decide +kernel⟩ 0 15 rfl rfl rfl rfl (Nat.le_of_ble_eq_true rfl) (Nat.le_of_ble_eq_true rfl) ⟨by omega, by omega⟩ (Nat.le_of_ble_eq_true rfl) dX13_item_153 (fun r_153 u H locs hp hI hz => ?_)
  have hI := wI_w app3.symm hI
  have hI : wI E AR sR H locs (rdO E o tq sz (adn 10) (atC b sz a) (fr b sz a) (some (wz.1)) (nuC b sz a) ++ (tW E adn (va_up (va_up (va_up ivn 3 (nI n)) 4 (nI st)) 5 (nI mm)) hrn csn (sK K) ++ (tpW E tq fT ++ (strH E wz.1 wz.2.1 (nx b sz a - fr b sz a) wz.2.2 h9_20 z9_20)))) := hI
  have hp : r_153 = b2i (eqK wz.2.2 (nx b sz a - fr b sz a) 6) := hp
  have hr_153 := hp
  rcases b2i_cases hr_153 with ⟨c_153, rfl⟩ | ⟨c_153, rfl⟩
  · skip
    have c_153 : strEq wz.2.2 (nx b sz a - fr b sz a) 6 := eqK_t c_153
    have hlen := isW_ln hW
    have hlen : nx b sz a - fr b sz a = 3 := hlen
    have hco : coE b sz a (metE b sz n a) = coE b sz a (stm b sz n st mm hrn csn K a) := co_w6 hW
    refine lv_if_eq (tgt := 161) hxR hbR dX13_item_156 (by decide) (fun c => absurd c (by decide)) (fun _ => ?_)
    refine lv_iconst (v := 5) hxR hbR dX13_item_159 (by decide) ?_
    refine lv_istore_n (lv' := [(2, .int 5), (1, .ref wz.1), (0, .ref o)]) hxR hbR dX13_item_160 rfl hl (by decide) rfl (fun ls hl => ?_)
    refine lv_iload_n hxR hbR dX13_item_161 rfl (lv_at hl 0 rfl) ?_
    refine lv_tableIn (tgt := 323) hxR hbR dX13_item_162 (by decide) (by decide) rfl (by decide) ?_
    refine lv_aload_n hxR hbR dX13_item_323 rfl (lv_at hl 2 rfl) ?_
    have hI : wI E AR sR _ _ (strH E wz.1 wz.2.1 (nx b sz a - fr b sz a) wz.2.2 h9_20 z9_20 ++ (rdO E o tq sz (adn 10) (atC b sz a) (fr b sz a) (some (wz.1)) (nuC b sz a) ++ (tW E adn (va_up (va_up (va_up ivn 3 (nI n)) 4 (nI st)) 5 (nI mm)) hrn csn (sK K) ++ (tpW E tq fT)))) := wI_pick ([rdO E o tq sz (adn 10) (atC b sz a) (fr b sz a) (some (wz.1)) (nuC b sz a), tW E adn (va_up (va_up (va_up ivn 3 (nI n)) 4 (nI st)) 5 (nI mm)) hrn csn (sK K), tpW E tq fT, strH E wz.1 wz.2.1 (nx b sz a - fr b sz a) wz.2.2 h9_20 z9_20]) [3, 0, 1, 2] 4 rfl (by decide) hI
    have hI := wI_dropL hI
    have hI : wI E AR sR _ _ (rdO E o tq sz (adn 10) (atC b sz a) (fr b sz a) (some (wz.1)) (nuC b sz a) ++ (tW E adn (va_up (va_up (va_up ivn 3 (nI n)) 4 (nI st)) 5 (nI mm)) hrn csn (sK K) ++ (tpW E tq fT))) := hI
    have hI := wI_w (ws' := rdO E o tq sz (adn 10) (atC b sz a) (fr b sz a) (some (wz.1)) (nuC b sz a) ++ (tW E adn (va_up (va_up (va_up ivn 3 (nI n)) 4 (nI st)) 5 (nI mm)) hrn csn (sK K) ++ (tpW E tq fT ++ (([] : va_W))))) (by rw [List.append_nil]) hI
    refine kVVX (n := 0) (As := []) (rest := []) (fun w => w) hxR hbR hmlR hts hown hK hA hl.1 isCtx.id hI (c13_met l E o tq (some (wz.1)) adn (va_up (va_up (va_up ivn 3 (nI n)) 4 (nI st)) 5 (nI mm)) hrn csn fT b sz a K n hlt htp hsz ha (up_n (by decide) (up_n (by decide) va_up_s)) hn7 hk_4) (lw_V q1143 q1145 qs17 q107 q1146) ⟨rfl, by decide +kernel⟩ 0 12 rfl rfl (he_l rfl) rfl (Nat.le_of_ble_eq_true rfl) (Nat.le_of_ble_eq_true rfl) ⟨by omega, by omega⟩ (Nat.le_of_ble_eq_true rfl) dX13_item_324 (fun En ce_324 q_324 u H locs hX hI hz hq1 hq2 hq3 => ?_) (fun u H locs hp hI hz => ?_)
    · skip
      obtain ⟨f9_324, rfl⟩ : ∃ z, z = u := ⟨_, rfl⟩
      have hI : wI E AR sR H locs (tpW E tq fT ++ ([(q_324, .inr (13, [.null, .null, .null, .null, .null, .int 0, .int (nI f9_324)]))])) := hI
      have hX : En = "ThreeStrangers$Fault" ∧ (metE b sz n a) = .error f9_324 := hX
      obtain ⟨rfl, hok_324⟩ := hX
      exact hthr f9_324 _ _ _ _ _ _ _ _ _ _ hq1 hq2 hq3 hI ⟨rfl, (by rw [stm_w6 hW, hok_324])⟩ (by omega) (by omega)
    · skip
      obtain ⟨S2_324, p2_324, w2_324⟩ := u
      have hI : wI E AR sR H locs (rdO E o tq sz (adn 10) (atC b sz p2_324) (fr b sz p2_324) (wdR E b sz p2_324 w2_324) (nuC b sz p2_324) ++ (tW E adn (va_up (va_up (va_up ivn 3 (nI n)) 4 (nI st)) 5 (nI mm)) hrn csn (sK (meetK K S2_324 n)) ++ (tpW E tq fT ++ (wdW E b sz p2_324 w2_324)))) := hI
      have hp : (metE b sz n a) = .ok (S2_324, p2_324) ∧ wOk b sz p2_324 w2_324 := hp
      obtain ⟨hok_324, hw_324⟩ := hp
      refine lv_goto (tgt := 335) hxR hbR dX13_item_327 (by decide) ?_
      exact hret (n, st, mm, hrn, csn, (meetK K S2_324 n), p2_324, w2_324) _ _ _ _ _ _ dX13_item_335 hI (by show (stm b sz n st mm hrn csn K a) = .ok ((n, st, mm, hrn, csn, (meetK K S2_324 n)), p2_324) ∧ wOk b sz p2_324 w2_324; exact ⟨by rw [stm_w6 hW, hok_324], hw_324⟩) (by omega) (by omega)
  · skip
    have c_153 : ¬ strEq wz.2.2 (nx b sz a - fr b sz a) 6 := eqK_f c_153
    exact absurd ((wOk_isW hw hk_4).mp hW) c_153

theorem c13_item (l : Launch) (E : En) (o : Nat) (tq : Nat) (adn : Nat → Nat) (ivn : Nat → Int32) (hrn : Nat → Int32) (csn : Nat → Int32) (fT : Nat → Int32)  (b : Nat → Nat) (sz a : Nat)(wz : WD) (K : Nat → Nat → Int32) (n st mm : Nat)  (hlt : l.stackTraces = false) (htp : tpOk fT b sz) (hsz : sz ≤ 250) (ha : a ≤ sz) (hw : wOk b sz a wz) (hn : ivn 3 = nI n) (hst : ivn 4 = nI st) (hmm : ivn 5 = nI mm) (hn7 : n ≤ 7) : XtV l E yX13_item (ws_ yX13_item cX13_item 5 none) 11 (4 * coE b sz a (stm b sz n st mm hrn csn K a)) (1024 * coE b sz a (stm b sz n st mm hrn csn K a)) [.ref o] (rdO E o tq sz (adn 10) (atC b sz a) (fr b sz a) (wdR E b sz a wz) (nuC b sz a) ++ (tW E adn ivn hrn csn (sK K) ++ (tpW E tq fT ++ (wdW E b sz a wz)))) (fun (u : Nat × Nat × Nat × (Nat → Int32) × (Nat → Int32) × (Nat → Nat → Int32) × Nat × WD) => (stm b sz n st mm hrn csn K a) = .ok ((u.1, u.2.1, u.2.2.1, u.2.2.2.1, u.2.2.2.2.1, u.2.2.2.2.2.1), u.2.2.2.2.2.2.1) ∧ wOk b sz u.2.2.2.2.2.2.1 u.2.2.2.2.2.2.2) (fun (u : Nat × Nat × Nat × (Nat → Int32) × (Nat → Int32) × (Nat → Nat → Int32) × Nat × WD) => rdO E o tq sz (adn 10) (atC b sz u.2.2.2.2.2.2.1) (fr b sz u.2.2.2.2.2.2.1) (wdR E b sz u.2.2.2.2.2.2.1 u.2.2.2.2.2.2.2) (nuC b sz u.2.2.2.2.2.2.1) ++ (tW E adn (va_up (va_up (va_up ivn 3 (nI u.1)) 4 (nI u.2.1)) 5 (nI u.2.2.1)) u.2.2.2.1 u.2.2.2.2.1 (sK u.2.2.2.2.2.1) ++ (tpW E tq fT ++ (wdW E b sz u.2.2.2.2.2.2.1 u.2.2.2.2.2.2.2)))) (fun (En : String) (u : Nat) => En = "ThreeStrangers$Fault" ∧ (stm b sz n st mm hrn csn K a) = .error u) (fun (u : Nat) (q : Nat) => tpW E tq fT ++ ([(q, .inr (13, [.null, .null, .null, .null, .null, .int 0, .int (nI u)]))])) := by
  by_cases h1 : isW b sz a 1 = true
  · exact c13_item_1 l E o tq adn ivn hrn csn fT b sz a wz K n st mm hlt htp hsz ha hw hn hst hmm hn7 h1
  by_cases h2 : isW b sz a 2 = true
  · exact c13_item_2 l E o tq adn ivn hrn csn fT b sz a wz K n st mm hlt htp hsz ha hw hn hst hmm hn7 h2
  by_cases h3 : isW b sz a 3 = true
  · exact c13_item_3 l E o tq adn ivn hrn csn fT b sz a wz K n st mm hlt htp hsz ha hw hn hst hmm hn7 h3
  by_cases h4 : isW b sz a 4 = true
  · exact c13_item_4 l E o tq adn ivn hrn csn fT b sz a wz K n st mm hlt htp hsz ha hw hn hst hmm hn7 h4
  by_cases h5 : isW b sz a 5 = true
  · exact c13_item_5 l E o tq adn ivn hrn csn fT b sz a wz K n st mm hlt htp hsz ha hw hn hst hmm hn7 h5
  by_cases h6 : isW b sz a 6 = true
  · exact c13_item_6 l E o tq adn ivn hrn csn fT b sz a wz K n st mm hlt htp hsz ha hw hn hst hmm hn7 h6
  exact c13_item_0 l E o tq adn ivn hrn csn fT b sz a wz K n st mm hlt htp hsz ha hw hn hst hmm hn7 (fun j g1 g6 z => by
    rcases (show j = 1 ∨ j = 2 ∨ j = 3 ∨ j = 4 ∨ j = 5 ∨ j = 6 by omega) with e | e | e | e | e | e
    · rw [e] at z; exact h1 z
    · rw [e] at z; exact h2 z
    · rw [e] at z; exact h3 z
    · rw [e] at z; exact h4 z
    · rw [e] at z; exact h5 z
    · rw [e] at z; exact h6 z)
