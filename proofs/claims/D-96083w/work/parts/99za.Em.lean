theorem atC_k {b : Nat → Nat} {sz a : Nat} {k : Nat} (h : kd b sz a = k) (h4 : k ≠ 4) : atC b sz a = nx b sz a := atC_n (by rw [h]; exact h4)
theorem wdW_k {E : En} {b : Nat → Nat} {sz a : Nat} {w : WD} {k : Nat} (h : kd b sz a = k) (h1 : k ≠ 1) : wdW E b sz a w = [] := wdW_n (by rw [h]; exact h1)
theorem wdR_1 {E : En} {b : Nat → Nat} {sz a : Nat} {w : WD} (h : kd b sz a = 1) : wdR E b sz a w = some w.1 := if_pos h
theorem wdW_1 {E : En} {b : Nat → Nat} {sz a : Nat} {w : WD} (h : kd b sz a = 1) : wdW E b sz a w = strH E w.1 w.2.1 (nx b sz a - fr b sz a) w.2.2 0 0 := if_pos h
theorem wdR_3 {E : En} {b : Nat → Nat} {sz a : Nat} {w : WD} (h : kd b sz a = 3) : wdR E b sz a w = some (E.1.2.1 0) := by unfold wdR; rw [if_neg (by rw [h]; decide), if_pos h]
theorem wdR_0 {E : En} {b : Nat → Nat} {sz a : Nat} {w : WD} (h : ¬ kd b sz a = 1 ∧ ¬ kd b sz a = 3) : wdR E b sz a w = none := by unfold wdR; rw [if_neg h.1, if_neg h.2]
theorem kd_13 (b : Nat → Nat) (sz a : Nat) : (¬ kd b sz a = 1 ∧ ¬ kd b sz a = 3) ∨ kd b sz a = 3 ∨ kd b sz a = 1 := by omega
theorem nx1_lt {b : Nat → Nat} {sz a : Nat} (h : kd b sz a = 1) (ha : a ≤ sz) : fr b sz a < nx b sz a := by
  obtain ⟨h1, h2⟩ := kd_1i h
  have h3 := fr_le (b := b) ha
  rw [nx_1 h1 h2, ← whl_y (by omega) h2]
  exact Nat.lt_of_lt_of_le (Nat.lt_succ_self _) whl_ge
theorem wOk_isW {b : Nat → Nat} {sz a i : Nat} {w : WD} (hw : wOk b sz a w) (h : kd b sz a = 1) : isW b sz a i = true ↔ strEq w.2.2 (nx b sz a - fr b sz a) i := by
  constructor
  · intro z
    obtain ⟨-, z2, z3⟩ := of_decide_eq_true z
    exact ⟨z2, fun j hj => by rw [hw h j hj]; exact z3 j (by omega)⟩
  · intro z
    exact isW_t h z.1 (fun j hj => by rw [← hw h j (by rw [z.1]; exact hj)]; exact z.2 j (by rw [z.1]; exact hj))
theorem not_semi {b : Nat → Nat} {sz a : Nat} {w : WD} (hw : wOk b sz a w) (h : kd b sz a = 1) (ha : a ≤ sz) (hb : ∀ j, j < sz → b j < 256) : ¬ strEq w.2.2 (nx b sz a - fr b sz a) 0 := by
  intro z
  have hl := nx1_lt h ha
  obtain ⟨h1, h2⟩ := kd_1i h
  have h3 := fr_le (b := b) ha
  have z0 := z.2 0 (by omega)
  rw [hw h 0 (by omega)] at z0
  have h9 : 97 ≤ b (fr b sz a) ∧ b (fr b sz a) ≤ 122 := of_decide_eq_true h2
  have e : nI (b (fr b sz a + 0)) = nI 59 := z0
  rw [Nat.add_zero] at e
  have hb9 := hb (fr b sz a) (by omega)
  have := (n_eq (a := b (fr b sz a)) (b := 59) (by omega) (by decide)).mp e
  omega
/-- where the token is looked for, behind one that is taken or left -/
def tkA (c : Bool) (b : Nat → Nat) (sz a : Nat) : Nat := if c = true then nx b sz a else a
/-- what taking a token costs, if it is taken -/
def kxC (c : Bool) (b : Nat → Nat) (sz a : Nat) : Nat := if c = true then 1 + (nx b sz (nx b sz a) - nx b sz a) else 0
theorem kxC_t {c : Bool} {b : Nat → Nat} {sz a : Nat} (h : c = true) : kxC c b sz a = 1 + (nx b sz (nx b sz a) - nx b sz a) := if_pos h
theorem kxC_f {c : Bool} {b : Nat → Nat} {sz a : Nat} (h : c = false) : kxC c b sz a = 0 := if_neg (by rw [h]; decide)
theorem tkA_t {c : Bool} {b : Nat → Nat} {sz a : Nat} (h : c = true) : tkA c b sz a = nx b sz a := if_pos h
theorem tkA_f {c : Bool} {b : Nat → Nat} {sz a : Nat} (h : c = false) : tkA c b sz a = a := if_neg (by rw [h]; decide)

theorem c13_takes0 (l : Launch) (E : En) (o : Nat) (tq : Nat) (tn : Nat) (fT : Nat → Int32)  (b : Nat → Nat) (sz a : Nat)(wz : WD)  (htp : tpOk fT b sz) (hsz : sz ≤ 250) (ha : a ≤ sz) (hw : wOk b sz a wz) : CtI l E yX13_takes cX13_takes 2 .boolean 8 (4 * kxC (decide (kd b sz a = 3)) b sz a) (1024 * kxC (decide (kd b sz a = 3)) b sz a) [.ref o, .ref (E.1.2.1 0)] (rdO E o tq sz tn (atC b sz a) (fr b sz a) (wdR E b sz a wz) (nuC b sz a) ++ (tpW E tq fT ++ (wdW E b sz a wz))) (fun (r : Int32) (u : WD) => r = b2i (decide (kd b sz a = 3)) ∧ wOk b sz (tkA (decide (kd b sz a = 3)) b sz a) u) (fun (u : WD) => rdO E o tq sz tn (atC b sz (tkA (decide (kd b sz a = 3)) b sz a)) (fr b sz (tkA (decide (kd b sz a = 3)) b sz a)) (wdR E b sz (tkA (decide (kd b sz a = 3)) b sz a) u) (nuC b sz (tkA (decide (kd b sz a = 3)) b sz a)) ++ (tpW E tq fT ++ (wdW E b sz (tkA (decide (kd b sz a = 3)) b sz a) u))) := by
  have hna := nx_le (b := b) ha
  refine CtI.of (by decide +kernel) (Nat.le_of_ble_eq_true rfl) ?_
  intro pR eR sR mR aR bR tR cR AR ls QR hxR hbR hmlR hts hown hlk hnm hA hK hI hl hret
  have hl : lv_has ls 2 [(0, .ref o), (1, .ref (E.1.2.1 0))] := hl
  refine lv_aload_n hxR hbR dX13_takes_0 rfl (lv_at hl 0 rfl) ?_
  refine r_get hxR hbR hts hown hK hI okX13 (ci := 12) rfl 0 (he_l rfl) 5 (by decide) q810 rfl (v := va_rf (wdR E b sz a wz)) rfl dX13_takes_1 ?_
  rcases kd_13 b sz a with hk_4 | hk_4 | hk_4
  · skip
    rw [wdR_0 hk_4]
    have hI := wI_w (ws' := rdO E o tq sz tn (atC b sz a) (fr b sz a) none (nuC b sz a) ++ (tpW E tq fT ++ (([] : va_W)))) (by rw [wdR_0 hk_4, wdW_n hk_4.1]) hI
    refine lv_ifnullN (tgt := 18) hxR hbR dX13_takes_4 (by decide) ?_
    refine lv_iconst (v := 0) hxR hbR dX13_takes_18 (by decide) ?_
    have hc : (decide (kd b sz a = 3)) = false := decide_eq_false hk_4.2
    have hI := wI_w (ws' := rdO E o tq sz tn (atC b sz (tkA (decide (kd b sz a = 3)) b sz a)) (fr b sz (tkA (decide (kd b sz a = 3)) b sz a)) (wdR E b sz (tkA (decide (kd b sz a = 3)) b sz a) wz) (nuC b sz (tkA (decide (kd b sz a = 3)) b sz a)) ++ (tpW E tq fT ++ (wdW E b sz (tkA (decide (kd b sz a = 3)) b sz a) wz))) (by rw [tkA_f hc, wdR_0 hk_4, wdW_n hk_4.1]) hI
    exact hret wz 0 _ _ _ _ _ _ dX13_takes_19 hI (by show 0 = b2i (decide (kd b sz a = 3)) ∧ wOk b sz (tkA (decide (kd b sz a = 3)) b sz a) wz; rw [tkA_f hc, hc]; exact ⟨rfl, hw⟩) (by omega) (by omega) rfl
  · skip
    rw [wdR_3 hk_4]
    have hI := wI_w (ws' := rdO E o tq sz tn (atC b sz a) (fr b sz a) (some (E.1.2.1 0)) (nuC b sz a) ++ (tpW E tq fT ++ (([] : va_W)))) (by rw [wdR_3 hk_4, wdW_k hk_4 (by decide)]) hI
    refine lv_ifnull hxR hbR dX13_takes_4 ?_
    refine lv_aload_n hxR hbR dX13_takes_7 rfl (lv_at hl 0 rfl) ?_
    refine r_get hxR hbR hts hown hK hI okX13 (ci := 12) rfl 0 (he_l rfl) 5 (by decide) q810 rfl (v := .ref (E.1.2.1 0)) rfl dX13_takes_8 ?_
    refine lv_aload_n hxR hbR dX13_takes_11 rfl (lv_at hl 1 rfl) ?_
    refine kVIc (n := 1) (As := [.ref (E.1.2.1 0)]) (rest := []) (fun w => w ++ (rdO E o tq sz tn (atC b sz a) (fr b sz a) (some (E.1.2.1 0)) (nuC b sz a) ++ (tpW E tq fT ++ (([] : va_W))))) hxR hbR hmlR hts hown hK hA hl.1 (isCtx.suf _) hI 0 (by decide) (j4_equalsK0 l E) (lw_V q1107 q1108 q1109 q91 q1110) ⟨rfl, by decide +kernel⟩ rfl rfl (Nat.le_of_ble_eq_true rfl) (Nat.le_of_ble_eq_true rfl) ⟨by omega, by omega⟩ (Nat.le_of_ble_eq_true rfl) dX13_takes_12 (fun r_12 u H locs hp hI hz => ?_)
    have hI : wI E AR sR _ _ (rdO E o tq sz tn (atC b sz a) (fr b sz a) (some (E.1.2.1 0)) (nuC b sz a) ++ (tpW E tq fT ++ (([] : va_W)))) := hI
    obtain rfl : r_12 = 1 := hp
    refine lv_if_ne (tgt := 20) hxR hbR dX13_takes_15 (by decide) (fun _ => ?_) (fun c => absurd c (by decide))
    refine lv_aload_n hxR hbR dX13_takes_20 rfl (lv_at hl 0 rfl) ?_
    have hat : atC b sz a = nx b sz a := atC_k hk_4 (by decide)
    have hkx : kxC (decide (kd b sz a = 3)) b sz a = 1 + (nx b sz (nx b sz a) - nx b sz a) := kxC_t (decide_eq_true hk_4)
    have hI := wI_w (ws' := rdO E o tq sz tn (nx b sz a) (fr b sz a) (some (E.1.2.1 0)) (nuC b sz a) ++ (tpW E tq fT ++ (([] : va_W)))) (by rw [hat]) hI
    refine kVV (n := 0) (As := []) (rest := []) (fun w => w) hxR hbR hmlR hts hown hK hA hl.1 isCtx.id hI (c13_next l E o tq tn (fr b sz a) (some (E.1.2.1 0)) (nuC b sz a) fT b sz (nx b sz a) (by first | omega | with_reducible assumption) (by first | omega | with_reducible assumption) (by first | omega | with_reducible assumption)) (lw_V q831 q833 qs8 q107 q834) ⟨rfl, by decide +kernel⟩ 0 12 rfl rfl (he_l rfl) rfl (Nat.le_of_ble_eq_true rfl) (Nat.le_of_ble_eq_true rfl) ⟨by omega, by omega⟩ (Nat.le_of_ble_eq_true rfl) dX13_takes_21 (fun u H locs hp hI hz => ?_)
    obtain ⟨w_21, rfl⟩ : ∃ z, z = u := ⟨_, rfl⟩
    have hI : wI E AR sR H locs (rdO E o tq sz tn (atC b sz (nx b sz a)) (fr b sz (nx b sz a)) (wdR E b sz (nx b sz a) w_21) (nuC b sz (nx b sz a)) ++ (tpW E tq fT ++ (wdW E b sz (nx b sz a) w_21))) := hI
    have hp : wOk b sz (nx b sz a) w_21 := hp
    have hw_21 := hp
    refine lv_iconst (v := 1) hxR hbR dX13_takes_24 (by decide) ?_
    have hc : (decide (kd b sz a = 3)) = true := decide_eq_true hk_4
    have hI := wI_w (ws' := rdO E o tq sz tn (atC b sz (tkA (decide (kd b sz a = 3)) b sz a)) (fr b sz (tkA (decide (kd b sz a = 3)) b sz a)) (wdR E b sz (tkA (decide (kd b sz a = 3)) b sz a) w_21) (nuC b sz (tkA (decide (kd b sz a = 3)) b sz a)) ++ (tpW E tq fT ++ (wdW E b sz (tkA (decide (kd b sz a = 3)) b sz a) w_21))) (by rw [tkA_t hc]) hI
    exact hret w_21 1 _ _ _ _ _ _ dX13_takes_25 hI (by show 1 = b2i (decide (kd b sz a = 3)) ∧ wOk b sz (tkA (decide (kd b sz a = 3)) b sz a) w_21; rw [tkA_t hc, hc]; exact ⟨rfl, hw_21⟩) (by omega) (by omega) rfl
  · skip
    rw [wdR_1 hk_4]
    have hI := wI_w (ws' := rdO E o tq sz tn (atC b sz a) (fr b sz a) (some (wz.1)) (nuC b sz a) ++ (tpW E tq fT ++ (strH E wz.1 wz.2.1 (nx b sz a - fr b sz a) wz.2.2 0 0))) (by rw [wdR_1 hk_4, wdW_1 hk_4]) hI
    refine lv_ifnull hxR hbR dX13_takes_4 ?_
    refine lv_aload_n hxR hbR dX13_takes_7 rfl (lv_at hl 0 rfl) ?_
    refine r_get hxR hbR hts hown hK hI okX13 (ci := 12) rfl 0 (he_l rfl) 5 (by decide) q810 rfl (v := .ref wz.1) rfl dX13_takes_8 ?_
    refine lv_aload_n hxR hbR dX13_takes_11 rfl (lv_at hl 1 rfl) ?_
    have hI := wI_w app2 hI
    refine kVI (n := 1) (As := [.ref (E.1.2.1 0)]) (rest := []) (fun w => (rdO E o tq sz tn (atC b sz a) (fr b sz a) (some (wz.1)) (nuC b sz a) ++ (tpW E tq fT)) ++ w) hxR hbR hmlR hts hown hK hA hl.1 (isCtx.pre _) hI (j4_equals l E wz.1 wz.2.1 (nx b sz a - fr b sz a) wz.2.2 0 0 0 (by decide) (by omega)) (lw_V q1107 q1108 q1109 q91 q1110) ⟨rfl, by decide +kernel⟩ 0 15 rfl rfl rfl rfl (Nat.le_of_ble_eq_true rfl) (Nat.le_of_ble_eq_true rfl) ⟨by omega, by omega⟩ (Nat.le_of_ble_eq_true rfl) dX13_takes_12 (fun r_12 u H locs hp hI hz => ?_)
    have hI := wI_w app2.symm hI
    have hI : wI E AR sR H locs (rdO E o tq sz tn (atC b sz a) (fr b sz a) (some (wz.1)) (nuC b sz a) ++ (tpW E tq fT ++ (strH E wz.1 wz.2.1 (nx b sz a - fr b sz a) wz.2.2 0 0))) := hI
    have hp : r_12 = b2i (eqK wz.2.2 (nx b sz a - fr b sz a) 0) := hp
    have hr_12 := hp
    rcases b2i_cases hr_12 with ⟨c_12, rfl⟩ | ⟨c_12, rfl⟩
    · skip
      have c_12 : strEq wz.2.2 (nx b sz a - fr b sz a) 0 := eqK_t c_12
      exfalso
      exact not_semi hw hk_4 ha htp.lt c_12
    · skip
      have c_12 : ¬ strEq wz.2.2 (nx b sz a - fr b sz a) 0 := eqK_f c_12
      refine lv_if_ne (tgt := 20) hxR hbR dX13_takes_15 (by decide) (fun c => absurd c (by decide)) (fun _ => ?_)
      refine lv_iconst (v := 0) hxR hbR dX13_takes_18 (by decide) ?_
      have hc : (decide (kd b sz a = 3)) = false := decide_eq_false (by rw [hk_4]; decide)
      have hI := wI_w (ws' := rdO E o tq sz tn (atC b sz (tkA (decide (kd b sz a = 3)) b sz a)) (fr b sz (tkA (decide (kd b sz a = 3)) b sz a)) (wdR E b sz (tkA (decide (kd b sz a = 3)) b sz a) wz) (nuC b sz (tkA (decide (kd b sz a = 3)) b sz a)) ++ (tpW E tq fT ++ (wdW E b sz (tkA (decide (kd b sz a = 3)) b sz a) wz))) (by rw [tkA_f hc, wdR_1 hk_4, wdW_1 hk_4]) hI
      exact hret wz 0 _ _ _ _ _ _ dX13_takes_19 hI (by show 0 = b2i (decide (kd b sz a = 3)) ∧ wOk b sz (tkA (decide (kd b sz a = 3)) b sz a) wz; rw [tkA_f hc, hc]; exact ⟨rfl, hw⟩) (by omega) (by omega) rfl

theorem c13_takes7 (l : Launch) (E : En) (o : Nat) (tq : Nat) (tn : Nat) (fT : Nat → Int32)  (b : Nat → Nat) (sz a : Nat)(wz : WD)  (htp : tpOk fT b sz) (hsz : sz ≤ 250) (ha : a ≤ sz) (hw : wOk b sz a wz) : CtI l E yX13_takes cX13_takes 2 .boolean 8 (4 * kxC (isW b sz a 7) b sz a) (1024 * kxC (isW b sz a 7) b sz a) [.ref o, .ref (E.1.2.1 7)] (rdO E o tq sz tn (atC b sz a) (fr b sz a) (wdR E b sz a wz) (nuC b sz a) ++ (tpW E tq fT ++ (wdW E b sz a wz))) (fun (r : Int32) (u : WD) => r = b2i (isW b sz a 7) ∧ wOk b sz (tkA (isW b sz a 7) b sz a) u) (fun (u : WD) => rdO E o tq sz tn (atC b sz (tkA (isW b sz a 7) b sz a)) (fr b sz (tkA (isW b sz a 7) b sz a)) (wdR E b sz (tkA (isW b sz a 7) b sz a) u) (nuC b sz (tkA (isW b sz a 7) b sz a)) ++ (tpW E tq fT ++ (wdW E b sz (tkA (isW b sz a 7) b sz a) u))) := by
  have hna := nx_le (b := b) ha
  refine CtI.of (by decide +kernel) (Nat.le_of_ble_eq_true rfl) ?_
  intro pR eR sR mR aR bR tR cR AR ls QR hxR hbR hmlR hts hown hlk hnm hA hK hI hl hret
  have hl : lv_has ls 2 [(0, .ref o), (1, .ref (E.1.2.1 7))] := hl
  refine lv_aload_n hxR hbR dX13_takes_0 rfl (lv_at hl 0 rfl) ?_
  refine r_get hxR hbR hts hown hK hI okX13 (ci := 12) rfl 0 (he_l rfl) 5 (by decide) q810 rfl (v := va_rf (wdR E b sz a wz)) rfl dX13_takes_1 ?_
  rcases kd_13 b sz a with hk_4 | hk_4 | hk_4
  · skip
    rw [wdR_0 hk_4]
    have hI := wI_w (ws' := rdO E o tq sz tn (atC b sz a) (fr b sz a) none (nuC b sz a) ++ (tpW E tq fT ++ (([] : va_W)))) (by rw [wdR_0 hk_4, wdW_n hk_4.1]) hI
    refine lv_ifnullN (tgt := 18) hxR hbR dX13_takes_4 (by decide) ?_
    refine lv_iconst (v := 0) hxR hbR dX13_takes_18 (by decide) ?_
    have hc : (isW b sz a 7) = false := isW_f1 hk_4.1
    have hI := wI_w (ws' := rdO E o tq sz tn (atC b sz (tkA (isW b sz a 7) b sz a)) (fr b sz (tkA (isW b sz a 7) b sz a)) (wdR E b sz (tkA (isW b sz a 7) b sz a) wz) (nuC b sz (tkA (isW b sz a 7) b sz a)) ++ (tpW E tq fT ++ (wdW E b sz (tkA (isW b sz a 7) b sz a) wz))) (by rw [tkA_f hc, wdR_0 hk_4, wdW_n hk_4.1]) hI
    exact hret wz 0 _ _ _ _ _ _ dX13_takes_19 hI (by show 0 = b2i (isW b sz a 7) ∧ wOk b sz (tkA (isW b sz a 7) b sz a) wz; rw [tkA_f hc, hc]; exact ⟨rfl, hw⟩) (by omega) (by omega) rfl
  · skip
    rw [wdR_3 hk_4]
    have hI := wI_w (ws' := rdO E o tq sz tn (atC b sz a) (fr b sz a) (some (E.1.2.1 0)) (nuC b sz a) ++ (tpW E tq fT ++ (([] : va_W)))) (by rw [wdR_3 hk_4, wdW_k hk_4 (by decide)]) hI
    refine lv_ifnull hxR hbR dX13_takes_4 ?_
    refine lv_aload_n hxR hbR dX13_takes_7 rfl (lv_at hl 0 rfl) ?_
    refine r_get hxR hbR hts hown hK hI okX13 (ci := 12) rfl 0 (he_l rfl) 5 (by decide) q810 rfl (v := .ref (E.1.2.1 0)) rfl dX13_takes_8 ?_
    refine lv_aload_n hxR hbR dX13_takes_11 rfl (lv_at hl 1 rfl) ?_
    refine kVIc (n := 1) (As := [.ref (E.1.2.1 7)]) (rest := []) (fun w => w ++ (rdO E o tq sz tn (atC b sz a) (fr b sz a) (some (E.1.2.1 0)) (nuC b sz a) ++ (tpW E tq fT ++ (([] : va_W))))) hxR hbR hmlR hts hown hK hA hl.1 (isCtx.suf _) hI 0 (by decide) (j4_equalsK7 l E) (lw_V q1107 q1108 q1109 q91 q1110) ⟨rfl, by decide +kernel⟩ rfl rfl (Nat.le_of_ble_eq_true rfl) (Nat.le_of_ble_eq_true rfl) ⟨by omega, by omega⟩ (Nat.le_of_ble_eq_true rfl) dX13_takes_12 (fun r_12 u H locs hp hI hz => ?_)
    have hI : wI E AR sR _ _ (rdO E o tq sz tn (atC b sz a) (fr b sz a) (some (E.1.2.1 0)) (nuC b sz a) ++ (tpW E tq fT ++ (([] : va_W)))) := hI
    obtain rfl : r_12 = 0 := hp
    refine lv_if_ne (tgt := 20) hxR hbR dX13_takes_15 (by decide) (fun c => absurd c (by decide)) (fun _ => ?_)
    refine lv_iconst (v := 0) hxR hbR dX13_takes_18 (by decide) ?_
    have hc : (isW b sz a 7) = false := isW_f1 (by rw [hk_4]; decide)
    have hI := wI_w (ws' := rdO E o tq sz tn (atC b sz (tkA (isW b sz a 7) b sz a)) (fr b sz (tkA (isW b sz a 7) b sz a)) (wdR E b sz (tkA (isW b sz a 7) b sz a) wz) (nuC b sz (tkA (isW b sz a 7) b sz a)) ++ (tpW E tq fT ++ (wdW E b sz (tkA (isW b sz a 7) b sz a) wz))) (by rw [tkA_f hc, wdR_3 hk_4, wdW_k hk_4 (by decide)]) hI
    exact hret wz 0 _ _ _ _ _ _ dX13_takes_19 hI (by show 0 = b2i (isW b sz a 7) ∧ wOk b sz (tkA (isW b sz a 7) b sz a) wz; rw [tkA_f hc, hc]; exact ⟨rfl, hw⟩) (by omega) (by omega) rfl
  · skip
    rw [wdR_1 hk_4]
    have hI := wI_w (ws' := rdO E o tq sz tn (atC b sz a) (fr b sz a) (some (wz.1)) (nuC b sz a) ++ (tpW E tq fT ++ (strH E wz.1 wz.2.1 (nx b sz a - fr b sz a) wz.2.2 0 0))) (by rw [wdR_1 hk_4, wdW_1 hk_4]) hI
    refine lv_ifnull hxR hbR dX13_takes_4 ?_
    refine lv_aload_n hxR hbR dX13_takes_7 rfl (lv_at hl 0 rfl) ?_
    refine r_get hxR hbR hts hown hK hI okX13 (ci := 12) rfl 0 (he_l rfl) 5 (by decide) q810 rfl (v := .ref wz.1) rfl dX13_takes_8 ?_
    refine lv_aload_n hxR hbR dX13_takes_11 rfl (lv_at hl 1 rfl) ?_
    have hI := wI_w app2 hI
    refine kVI (n := 1) (As := [.ref (E.1.2.1 7)]) (rest := []) (fun w => (rdO E o tq sz tn (atC b sz a) (fr b sz a) (some (wz.1)) (nuC b sz a) ++ (tpW E tq fT)) ++ w) hxR hbR hmlR hts hown hK hA hl.1 (isCtx.pre _) hI (j4_equals l E wz.1 wz.2.1 (nx b sz a - fr b sz a) wz.2.2 0 0 7 (by decide) (by omega)) (lw_V q1107 q1108 q1109 q91 q1110) ⟨rfl, by decide +kernel⟩ 0 15 rfl rfl rfl rfl (Nat.le_of_ble_eq_true rfl) (Nat.le_of_ble_eq_true rfl) ⟨by omega, by omega⟩ (Nat.le_of_ble_eq_true rfl) dX13_takes_12 (fun r_12 u H locs hp hI hz => ?_)
    have hI := wI_w app2.symm hI
    have hI : wI E AR sR H locs (rdO E o tq sz tn (atC b sz a) (fr b sz a) (some (wz.1)) (nuC b sz a) ++ (tpW E tq fT ++ (strH E wz.1 wz.2.1 (nx b sz a - fr b sz a) wz.2.2 0 0))) := hI
    have hp : r_12 = b2i (eqK wz.2.2 (nx b sz a - fr b sz a) 7) := hp
    have hr_12 := hp
    rcases b2i_cases hr_12 with ⟨c_12, rfl⟩ | ⟨c_12, rfl⟩
    · skip
      have c_12 : strEq wz.2.2 (nx b sz a - fr b sz a) 7 := eqK_t c_12
      refine lv_if_ne (tgt := 20) hxR hbR dX13_takes_15 (by decide) (fun _ => ?_) (fun c => absurd c (by decide))
      refine lv_aload_n hxR hbR dX13_takes_20 rfl (lv_at hl 0 rfl) ?_
      have hat : atC b sz a = nx b sz a := atC_k hk_4 (by decide)
      have hkx : kxC (isW b sz a 7) b sz a = 1 + (nx b sz (nx b sz a) - nx b sz a) := kxC_t ((wOk_isW hw hk_4).mpr c_12)
      have hI : wI E AR sR _ _ (strH E wz.1 wz.2.1 (nx b sz a - fr b sz a) wz.2.2 0 0 ++ (rdO E o tq sz tn (atC b sz a) (fr b sz a) (some (wz.1)) (nuC b sz a) ++ (tpW E tq fT))) := wI_pick ([rdO E o tq sz tn (atC b sz a) (fr b sz a) (some (wz.1)) (nuC b sz a), tpW E tq fT, strH E wz.1 wz.2.1 (nx b sz a - fr b sz a) wz.2.2 0 0]) [2, 0, 1] 3 rfl (by decide) hI
      have hI := wI_dropL hI
      have hI : wI E AR sR _ _ (rdO E o tq sz tn (atC b sz a) (fr b sz a) (some (wz.1)) (nuC b sz a) ++ (tpW E tq fT)) := hI
      have hI := wI_w (ws' := rdO E o tq sz tn (nx b sz a) (fr b sz a) (some (wz.1)) (nuC b sz a) ++ (tpW E tq fT ++ (([] : va_W)))) (by rw [hat, List.append_nil]) hI
      refine kVV (n := 0) (As := []) (rest := []) (fun w => w) hxR hbR hmlR hts hown hK hA hl.1 isCtx.id hI (c13_next l E o tq tn (fr b sz a) (some (wz.1)) (nuC b sz a) fT b sz (nx b sz a) (by first | omega | with_reducible assumption) (by first | omega | with_reducible assumption) (by first | omega | with_reducible assumption)) (lw_V q831 q833 qs8 q107 q834) ⟨rfl, by decide +kernel⟩ 0 12 rfl rfl (he_l rfl) rfl (Nat.le_of_ble_eq_true rfl) (Nat.le_of_ble_eq_true rfl) ⟨by omega, by omega⟩ (Nat.le_of_ble_eq_true rfl) dX13_takes_21 (fun u H locs hp hI hz => ?_)
      obtain ⟨w_21, rfl⟩ : ∃ z, z = u := ⟨_, rfl⟩
      have hI : wI E AR sR H locs (rdO E o tq sz tn (atC b sz (nx b sz a)) (fr b sz (nx b sz a)) (wdR E b sz (nx b sz a) w_21) (nuC b sz (nx b sz a)) ++ (tpW E tq fT ++ (wdW E b sz (nx b sz a) w_21))) := hI
      have hp : wOk b sz (nx b sz a) w_21 := hp
      have hw_21 := hp
      refine lv_iconst (v := 1) hxR hbR dX13_takes_24 (by decide) ?_
      have hc : (isW b sz a 7) = true := (wOk_isW hw hk_4).mpr c_12
      have hI := wI_w (ws' := rdO E o tq sz tn (atC b sz (tkA (isW b sz a 7) b sz a)) (fr b sz (tkA (isW b sz a 7) b sz a)) (wdR E b sz (tkA (isW b sz a 7) b sz a) w_21) (nuC b sz (tkA (isW b sz a 7) b sz a)) ++ (tpW E tq fT ++ (wdW E b sz (tkA (isW b sz a 7) b sz a) w_21))) (by rw [tkA_t hc]) hI
      exact hret w_21 1 _ _ _ _ _ _ dX13_takes_25 hI (by show 1 = b2i (isW b sz a 7) ∧ wOk b sz (tkA (isW b sz a 7) b sz a) w_21; rw [tkA_t hc, hc]; exact ⟨rfl, hw_21⟩) (by omega) (by omega) rfl
    · skip
      have c_12 : ¬ strEq wz.2.2 (nx b sz a - fr b sz a) 7 := eqK_f c_12
      refine lv_if_ne (tgt := 20) hxR hbR dX13_takes_15 (by decide) (fun c => absurd c (by decide)) (fun _ => ?_)
      refine lv_iconst (v := 0) hxR hbR dX13_takes_18 (by decide) ?_
      have hc : (isW b sz a 7) = false := (by cases e9 : isW b sz a 7; rfl; exact absurd ((wOk_isW hw hk_4).mp e9) c_12)
      have hI := wI_w (ws' := rdO E o tq sz tn (atC b sz (tkA (isW b sz a 7) b sz a)) (fr b sz (tkA (isW b sz a 7) b sz a)) (wdR E b sz (tkA (isW b sz a 7) b sz a) wz) (nuC b sz (tkA (isW b sz a 7) b sz a)) ++ (tpW E tq fT ++ (wdW E b sz (tkA (isW b sz a 7) b sz a) wz))) (by rw [tkA_f hc, wdR_1 hk_4, wdW_1 hk_4]) hI
      exact hret wz 0 _ _ _ _ _ _ dX13_takes_19 hI (by show 0 = b2i (isW b sz a 7) ∧ wOk b sz (tkA (isW b sz a 7) b sz a) wz; rw [tkA_f hc, hc]; exact ⟨rfl, hw⟩) (by omega) (by omega) rfl

theorem c13_number (l : Launch) (E : En) (o : Nat) (tq : Nat) (tn : Nat) (fT : Nat → Int32)  (b : Nat → Nat) (sz a : Nat)(wz : WD) (lo hi : Int32) (l9 h9 : Int) (hlt : l.stackTraces = false) (htp : tpOk fT b sz) (hsz : sz ≤ 250) (ha : a ≤ sz) (hw : wOk b sz a wz) (hl9 : Int32.toInt lo = l9) (hh9 : Int32.toInt hi = h9) (hl0 : 0 ≤ l9) (hh0 : h9 ≤ 99) : XtI l E yX13_number (ws_ yX13_number cX13_number 4 (some FieldType.int)) 8 (4 * (1 + (nx b sz (nx b sz a) - nx b sz a))) (1024 * (1 + (nx b sz (nx b sz a) - nx b sz a))) [.ref o, .int lo, .int hi] (rdO E o tq sz tn (atC b sz a) (fr b sz a) (wdR E b sz a wz) (nuC b sz a) ++ (tpW E tq fT ++ (wdW E b sz a wz))) (fun (r : Int32) (u : WD) => r = nI (fg b sz a) ∧ numE b sz a l9 h9 = .ok (fg b sz a, nx b sz a) ∧ wOk b sz (nx b sz a) u) (fun (u : WD) => rdO E o tq sz tn (atC b sz (nx b sz a)) (fr b sz (nx b sz a)) (wdR E b sz (nx b sz a) u) (nuC b sz (nx b sz a)) ++ (tpW E tq fT ++ (wdW E b sz (nx b sz a) u))) (fun (En : String) (u : Unit) => En = "ThreeStrangers$Fault" ∧ numE b sz a l9 h9 = .error (fr b sz a)) (fun (u : Unit) (q : Nat) => tpW E tq fT ++ ([(q, .inr (13, [.null, .null, .null, .null, .null, .int 0, .int (nI (fr b sz a))]))])) := by
  have hna := nx_le (b := b) ha
  have hnu := nuC_i (b := b) (sz := sz) (a := a)
  refine XtI.of (by decide +kernel) (Nat.le_of_ble_eq_true rfl) ?_
  intro pR eR sR mR aR bR tR cR AR ls QR hxR hbR hmlR hts hown hlk hnm hA hK hI hl hret hthr
  have hl : lv_has ls 4 [(0, .ref o), (1, .int lo), (2, .int hi)] := hl
  refine lv_aload_n hxR hbR dX13_number_0 rfl (lv_at hl 0 rfl) ?_
  refine r_get hxR hbR hts hown hK hI okX13 (ci := 12) rfl 0 (he_l rfl) 6 (by decide) q811 rfl (v := .int (nuC b sz a)) rfl dX13_number_1 ?_
  refine lv_iload_n hxR hbR dX13_number_4 rfl (lv_at hl 1 rfl) ?_
  refine lv_icmp_lt (tgt := 16) hxR hbR dX13_number_5 (by decide) (fun c_5 => ?_) (fun c_5 => ?_)
  · skip
    have i_5 : (nuC b sz a).toInt < lo.toInt := by have zz := i_lt.mp c_5; exact zz
    refine lv_aload_n hxR hbR dX13_number_16 rfl (lv_at hl 0 rfl) ?_
    have hI : wI E AR sR _ _ (tpW E tq fT ++ (wdW E b sz a wz ++ (rdO E o tq sz tn (atC b sz a) (fr b sz a) (wdR E b sz a wz) (nuC b sz a)))) := wI_pick ([rdO E o tq sz tn (atC b sz a) (fr b sz a) (wdR E b sz a wz) (nuC b sz a), tpW E tq fT, wdW E b sz a wz]) [1, 2, 0] 3 rfl (by decide) hI
    have hI := wI_w app2 hI
    refine kVR (n := 0) (As := []) (rest := []) (fun w => (tpW E tq fT ++ (wdW E b sz a wz)) ++ w) hxR hbR hmlR hts hown hK hA hl.1 (isCtx.pre _) hI (c13_wrong l E o tq tn (atC b sz a) (fr b sz a) (wdR E b sz a wz) (nuC b sz a) sz ) (lw_V q1030 q1032 qs11 q107 q1033) ⟨rfl, by decide +kernel⟩ 0 12 rfl rfl rfl rfl (Nat.le_of_ble_eq_true rfl) (Nat.le_of_ble_eq_true rfl) ⟨by omega, by omega⟩ (Nat.le_of_ble_eq_true rfl) dX13_number_17 (fun u r_17 H locs hp hI hz => ?_)
    have hI := wI_w app2.symm hI
    have hI : wI E AR sR H locs (tpW E tq fT ++ (wdW E b sz a wz ++ (rdO E o tq sz tn (atC b sz a) (fr b sz a) (wdR E b sz a wz) (nuC b sz a) ++ ([(r_17, .inr (13, [.null, .null, .null, .null, .null, .int 0, .int (nI (fr b sz a))]))])))) := hI
    have hI : wI E AR sR _ _ (wdW E b sz a wz ++ (rdO E o tq sz tn (atC b sz a) (fr b sz a) (wdR E b sz a wz) (nuC b sz a) ++ (tpW E tq fT ++ ([(r_17, .inr (13, [.null, .null, .null, .null, .null, .int 0, .int (nI (fr b sz a))]))])))) := wI_pick ([tpW E tq fT, wdW E b sz a wz, rdO E o tq sz tn (atC b sz a) (fr b sz a) (wdR E b sz a wz) (nuC b sz a), [(r_17, .inr (13, [.null, .null, .null, .null, .null, .int 0, .int (nI (fr b sz a))]))]]) [1, 2, 0, 3] 4 rfl (by decide) hI
    have hI := wI_dropL hI
    have hI := wI_dropL hI
    have hI : wI E AR sR _ _ (tpW E tq fT ++ ([(r_17, .inr (13, [.null, .null, .null, .null, .null, .int 0, .int (nI (fr b sz a))]))])) := hI
    refine vx_athrow hxR hbR dX13_number_20 ?_
    obtain ⟨ce_20, hq1, hq2, hq3⟩ := wI_thrown hK hI (ci := 13) (nm := "ThreeStrangers$Fault") rfl rfl (q0 := (1 + 0)) (he_r (Nat.le_of_ble_eq_true rfl) (Nat.le_of_ble_eq_true rfl) rfl)
    have hok : numE b sz a l9 h9 = .error (fr b sz a) := by
      rcases hnu with ⟨h1, h2, h3⟩ | ⟨h1, h2, h3⟩ | ⟨h1, h2⟩
      · exact numE_f2 (by omega)
      · exact numE_f2 (by omega)
      · exact numE_f1 h1
    exact hthr () _ _ _ _ _ _ _ _ _ _ hq1 hq2 hq3 hI ⟨rfl, hok⟩ (by omega) (by omega)
  · skip
    have i_5 : ¬ ((nuC b sz a).toInt < lo.toInt) := by have zz := mt i_lt.mpr c_5; exact zz
    refine lv_aload_n hxR hbR dX13_number_8 rfl (lv_at hl 0 rfl) ?_
    refine r_get hxR hbR hts hown hK hI okX13 (ci := 12) rfl 0 (he_l rfl) 6 (by decide) q811 rfl (v := .int (nuC b sz a)) rfl dX13_number_9 ?_
    refine lv_iload_n hxR hbR dX13_number_12 rfl (lv_at hl 2 rfl) ?_
    refine lv_icmp_le (tgt := 21) hxR hbR dX13_number_13 (by decide) (fun c_13 => ?_) (fun c_13 => ?_)
    · skip
      have i_13 : (nuC b sz a).toInt ≤ hi.toInt := by have zz := i_le.mp c_13; exact zz
      have hk9 : kd b sz a = 2 ∧ nuC b sz a = nI (fg b sz a) ∧ l9 ≤ (fg b sz a : Int) ∧ (fg b sz a : Int) ≤ h9 := by
        rcases hnu with ⟨h1, h2, h3⟩ | ⟨h1, h2, h3⟩ | ⟨h1, h2⟩
        · refine ⟨h1, ?_, by omega, by omega⟩
          rcases nuC_c (b := b) (sz := sz) (a := a) with ⟨_, g2, _⟩ | ⟨_, g2, g3⟩ | ⟨g1, _⟩
          · exact g2
          · omega
          · exact absurd h1 g1
        · omega
        · omega
      refine lv_aload_n hxR hbR dX13_number_21 rfl (lv_at hl 0 rfl) ?_
      refine r_get hxR hbR hts hown hK hI okX13 (ci := 12) rfl 0 (he_l rfl) 6 (by decide) q811 rfl (v := .int (nuC b sz a)) rfl dX13_number_22 ?_
      refine lv_as (y := nI (fg b sz a)) hk9.2.1 ?_
      refine lv_istore_n (lv' := [(3, .int (nI (fg b sz a))), (0, .ref o), (1, .int lo), (2, .int hi)]) hxR hbR dX13_number_25 rfl hl (by decide) rfl (fun ls hl => ?_)
      refine lv_aload_n hxR hbR dX13_number_26 rfl (lv_at hl 1 rfl) ?_
      have hat : atC b sz a = nx b sz a := atC_k hk9.1 (by decide)
      have hI : wI E AR sR _ _ (wdW E b sz a wz ++ (rdO E o tq sz tn (atC b sz a) (fr b sz a) (wdR E b sz a wz) (nuC b sz a) ++ (tpW E tq fT))) := wI_pick ([rdO E o tq sz tn (atC b sz a) (fr b sz a) (wdR E b sz a wz) (nuC b sz a), tpW E tq fT, wdW E b sz a wz]) [2, 0, 1] 3 rfl (by decide) hI
      have hI := wI_dropL hI
      have hI : wI E AR sR _ _ (rdO E o tq sz tn (atC b sz a) (fr b sz a) (wdR E b sz a wz) (nuC b sz a) ++ (tpW E tq fT)) := hI
      have hI := wI_w (ws' := rdO E o tq sz tn (nx b sz a) (fr b sz a) (wdR E b sz a wz) (nuC b sz a) ++ (tpW E tq fT ++ (([] : va_W)))) (by rw [hat, List.append_nil]) hI
      refine kVV (n := 0) (As := []) (rest := []) (fun w => w) hxR hbR hmlR hts hown hK hA hl.1 isCtx.id hI (c13_next l E o tq tn (fr b sz a) (wdR E b sz a wz) (nuC b sz a) fT b sz (nx b sz a) (by first | omega | with_reducible assumption) (by first | omega | with_reducible assumption) (by first | omega | with_reducible assumption)) (lw_V q831 q833 qs8 q107 q834) ⟨rfl, by decide +kernel⟩ 0 12 rfl rfl (he_l rfl) rfl (Nat.le_of_ble_eq_true rfl) (Nat.le_of_ble_eq_true rfl) ⟨by omega, by omega⟩ (Nat.le_of_ble_eq_true rfl) dX13_number_27 (fun u H locs hp hI hz => ?_)
      obtain ⟨w_27, rfl⟩ : ∃ z, z = u := ⟨_, rfl⟩
      have hI : wI E AR sR H locs (rdO E o tq sz tn (atC b sz (nx b sz a)) (fr b sz (nx b sz a)) (wdR E b sz (nx b sz a) w_27) (nuC b sz (nx b sz a)) ++ (tpW E tq fT ++ (wdW E b sz (nx b sz a) w_27))) := hI
      have hp : wOk b sz (nx b sz a) w_27 := hp
      have hw_27 := hp
      refine lv_iload_n hxR hbR dX13_number_30 rfl (lv_at hl 0 rfl) ?_
      exact hret w_27 (nI (fg b sz a)) _ _ _ _ _ _ dX13_number_31 hI (by show (nI (fg b sz a)) = nI (fg b sz a) ∧ numE b sz a l9 h9 = .ok (fg b sz a, nx b sz a) ∧ wOk b sz (nx b sz a) w_27; exact ⟨rfl, numE_t hk9.1 hk9.2.2, hw_27⟩) (by omega) (by omega) rfl
    · skip
      have i_13 : ¬ ((nuC b sz a).toInt ≤ hi.toInt) := by have zz := mt i_le.mpr c_13; exact zz
      refine lv_aload_n hxR hbR dX13_number_16 rfl (lv_at hl 0 rfl) ?_
      have hI : wI E AR sR _ _ (tpW E tq fT ++ (wdW E b sz a wz ++ (rdO E o tq sz tn (atC b sz a) (fr b sz a) (wdR E b sz a wz) (nuC b sz a)))) := wI_pick ([rdO E o tq sz tn (atC b sz a) (fr b sz a) (wdR E b sz a wz) (nuC b sz a), tpW E tq fT, wdW E b sz a wz]) [1, 2, 0] 3 rfl (by decide) hI
      have hI := wI_w app2 hI
      refine kVR (n := 0) (As := []) (rest := []) (fun w => (tpW E tq fT ++ (wdW E b sz a wz)) ++ w) hxR hbR hmlR hts hown hK hA hl.1 (isCtx.pre _) hI (c13_wrong l E o tq tn (atC b sz a) (fr b sz a) (wdR E b sz a wz) (nuC b sz a) sz ) (lw_V q1030 q1032 qs11 q107 q1033) ⟨rfl, by decide +kernel⟩ 0 12 rfl rfl rfl rfl (Nat.le_of_ble_eq_true rfl) (Nat.le_of_ble_eq_true rfl) ⟨by omega, by omega⟩ (Nat.le_of_ble_eq_true rfl) dX13_number_17 (fun u r_17 H locs hp hI hz => ?_)
      have hI := wI_w app2.symm hI
      have hI : wI E AR sR H locs (tpW E tq fT ++ (wdW E b sz a wz ++ (rdO E o tq sz tn (atC b sz a) (fr b sz a) (wdR E b sz a wz) (nuC b sz a) ++ ([(r_17, .inr (13, [.null, .null, .null, .null, .null, .int 0, .int (nI (fr b sz a))]))])))) := hI
      have hI : wI E AR sR _ _ (wdW E b sz a wz ++ (rdO E o tq sz tn (atC b sz a) (fr b sz a) (wdR E b sz a wz) (nuC b sz a) ++ (tpW E tq fT ++ ([(r_17, .inr (13, [.null, .null, .null, .null, .null, .int 0, .int (nI (fr b sz a))]))])))) := wI_pick ([tpW E tq fT, wdW E b sz a wz, rdO E o tq sz tn (atC b sz a) (fr b sz a) (wdR E b sz a wz) (nuC b sz a), [(r_17, .inr (13, [.null, .null, .null, .null, .null, .int 0, .int (nI (fr b sz a))]))]]) [1, 2, 0, 3] 4 rfl (by decide) hI
      have hI := wI_dropL hI
      have hI := wI_dropL hI
      have hI : wI E AR sR _ _ (tpW E tq fT ++ ([(r_17, .inr (13, [.null, .null, .null, .null, .null, .int 0, .int (nI (fr b sz a))]))])) := hI
      refine vx_athrow hxR hbR dX13_number_20 ?_
      obtain ⟨ce_20, hq1, hq2, hq3⟩ := wI_thrown hK hI (ci := 13) (nm := "ThreeStrangers$Fault") rfl rfl (q0 := (1 + 0)) (he_r (Nat.le_of_ble_eq_true rfl) (Nat.le_of_ble_eq_true rfl) rfl)
      have hok : numE b sz a l9 h9 = .error (fr b sz a) := by
        rcases hnu with ⟨h1, h2, h3⟩ | ⟨h1, h2, h3⟩ | ⟨h1, h2⟩
        · exact numE_f2 (by omega)
        · exact numE_f2 (by omega)
        · exact numE_f1 h1
      exact hthr () _ _ _ _ _ _ _ _ _ _ hq1 hq2 hq3 hI ⟨rfl, hok⟩ (by omega) (by omega)

theorem c13_one (l : Launch) (E : En) (o : Nat) (tq : Nat) (adn : Nat → Nat) (ivn : Nat → Int32) (hrn : Nat → Int32) (csn : Nat → Int32) (fT : Nat → Int32)  (b : Nat → Nat) (sz a : Nat)(wz : WD) (K : Nat → Nat → Int32) (n : Nat)  (hlt : l.stackTraces = false) (htp : tpOk fT b sz) (hsz : sz ≤ 250) (ha : a ≤ sz) (hw : wOk b sz a wz) (hn : ivn 3 = nI n) (hn7 : n ≤ 7) : XtI l E yX13_one (ws_ yX13_one cX13_one 1 (some FieldType.int)) 9 (4 * (1 + (nx b sz (nx b sz a) - nx b sz a))) (1024 * (1 + (nx b sz (nx b sz a) - nx b sz a))) [.ref o] (rdO E o tq sz (adn 10) (atC b sz a) (fr b sz a) (wdR E b sz a wz) (nuC b sz a) ++ (tW E adn ivn hrn csn (sK K) ++ (tpW E tq fT ++ (wdW E b sz a wz)))) (fun (r : Int32) (u : WD) => r = nI (fg b sz a) ∧ numE b sz a 0 ((n : Int) - 1) = .ok (fg b sz a, nx b sz a) ∧ wOk b sz (nx b sz a) u) (fun (u : WD) => rdO E o tq sz (adn 10) (atC b sz (nx b sz a)) (fr b sz (nx b sz a)) (wdR E b sz (nx b sz a) u) (nuC b sz (nx b sz a)) ++ (tW E adn ivn hrn csn (sK K) ++ (tpW E tq fT ++ (wdW E b sz (nx b sz a) u)))) (fun (En : String) (u : Unit) => En = "ThreeStrangers$Fault" ∧ numE b sz a 0 ((n : Int) - 1) = .error (fr b sz a)) (fun (u : Unit) (q : Nat) => tpW E tq fT ++ ([(q, .inr (13, [.null, .null, .null, .null, .null, .int 0, .int (nI (fr b sz a))]))])) := by
  refine XtI.of (by decide +kernel) (Nat.le_of_ble_eq_true rfl) ?_
  intro pR eR sR mR aR bR tR cR AR ls QR hxR hbR hmlR hts hown hlk hnm hA hK hI hl hret hthr
  have hl : lv_has ls 1 [(0, .ref o)] := hl
  refine lv_aload_n hxR hbR dX13_one_0 rfl (lv_at hl 0 rfl) ?_
  refine lv_iconst (v := 0) hxR hbR dX13_one_1 (by decide) ?_
  refine lv_aload_n hxR hbR dX13_one_2 rfl (lv_at hl 0 rfl) ?_
  refine r_get hxR hbR hts hown hK hI okX13 (ci := 12) rfl 0 (he_l rfl) 2 (by decide) q806 rfl (v := .ref (adn 10)) rfl dX13_one_3 ?_
  refine r_get hxR hbR hts hown hK hI okX1 (ci := 1) rfl (1 + 0) (he_r (Nat.le_of_ble_eq_true rfl) (Nat.le_of_ble_eq_true rfl) (he_l tW_o)) 3 (by decide) q143 rfl (v := .int (nI n)) (al hn) dX13_one_6 ?_
  refine lv_iconst (v := 1) hxR hbR dX13_one_9 (by decide) ?_
  refine lv_isub hxR hbR dX13_one_10 ?_
  have hI : wI E AR sR _ _ (rdO E o tq sz (adn 10) (atC b sz a) (fr b sz a) (wdR E b sz a wz) (nuC b sz a) ++ (tpW E tq fT ++ (wdW E b sz a wz ++ (tW E adn ivn hrn csn (sK K))))) := wI_pick ([rdO E o tq sz (adn 10) (atC b sz a) (fr b sz a) (wdR E b sz a wz) (nuC b sz a), tW E adn ivn hrn csn (sK K), tpW E tq fT, wdW E b sz a wz]) [0, 2, 3, 1] 4 rfl (by decide) hI
  have hI := wI_w app3 hI
  refine kVIX (n := 2) (As := [.int 0, .int ((nI n) - 1)]) (rest := []) (fun w => w ++ (tW E adn ivn hrn csn (sK K))) hxR hbR hmlR hts hown hK hA hl.1 (isCtx.suf _) hI (c13_number l E o tq (adn 10) fT b sz a wz 0 ((nI n) - 1) 0 ((n : Int) - 1) hlt (by first | omega | with_reducible assumption) (by first | omega | with_reducible assumption) (by first | omega | with_reducible assumption) (by first | omega | with_reducible assumption) rfl (nI_m1 (by omega)) (by omega) (by omega)) (lw_V q1124 q1126 qs13 q107 q1127) ⟨rfl, by decide +kernel⟩ 0 12 rfl rfl (he_l rfl) rfl (Nat.le_of_ble_eq_true rfl) (Nat.le_of_ble_eq_true rfl) ⟨by omega, by omega⟩ (Nat.le_of_ble_eq_true rfl) dX13_one_11 (fun En ce_11 q_11 u H locs hX hI hz hq1 hq2 hq3 => ?_) (fun r_11 u H locs hp hI hz => ?_)
  · skip
    have hI := wI_w app2.symm hI
    have hI : wI E AR sR H locs (tpW E tq fT ++ ([(q_11, .inr (13, [.null, .null, .null, .null, .null, .int 0, .int (nI (fr b sz a))]))] ++ (tW E adn ivn hrn csn (sK K)))) := hI
    have hI : wI E AR sR _ _ (tW E adn ivn hrn csn (sK K) ++ (tpW E tq fT ++ ([(q_11, .inr (13, [.null, .null, .null, .null, .null, .int 0, .int (nI (fr b sz a))]))]))) := wI_pick ([tpW E tq fT, [(q_11, .inr (13, [.null, .null, .null, .null, .null, .int 0, .int (nI (fr b sz a))]))], tW E adn ivn hrn csn (sK K)]) [2, 0, 1] 3 rfl (by decide) hI
    have hX : En = "ThreeStrangers$Fault" ∧ numE b sz a 0 ((n : Int) - 1) = .error (fr b sz a) := hX
    obtain ⟨rfl, hok_11⟩ := hX
    have hI := wI_dropL hI
    have hI : wI E AR sR _ _ (tpW E tq fT ++ ([(q_11, .inr (13, [.null, .null, .null, .null, .null, .int 0, .int (nI (fr b sz a))]))])) := hI
    exact hthr () _ _ _ _ _ _ _ _ _ _ hq1 hq2 hq3 hI ⟨rfl, hok_11⟩ (by omega) (by omega)
  · skip
    obtain ⟨w2_11, rfl⟩ : ∃ z, z = u := ⟨_, rfl⟩
    have hI := wI_w app3.symm hI
    have hI : wI E AR sR H locs (rdO E o tq sz (adn 10) (atC b sz (nx b sz a)) (fr b sz (nx b sz a)) (wdR E b sz (nx b sz a) w2_11) (nuC b sz (nx b sz a)) ++ (tpW E tq fT ++ (wdW E b sz (nx b sz a) w2_11 ++ (tW E adn ivn hrn csn (sK K))))) := hI
    have hI : wI E AR sR _ _ (rdO E o tq sz (adn 10) (atC b sz (nx b sz a)) (fr b sz (nx b sz a)) (wdR E b sz (nx b sz a) w2_11) (nuC b sz (nx b sz a)) ++ (tW E adn ivn hrn csn (sK K) ++ (tpW E tq fT ++ (wdW E b sz (nx b sz a) w2_11)))) := wI_pick ([rdO E o tq sz (adn 10) (atC b sz (nx b sz a)) (fr b sz (nx b sz a)) (wdR E b sz (nx b sz a) w2_11) (nuC b sz (nx b sz a)), tpW E tq fT, wdW E b sz (nx b sz a) w2_11, tW E adn ivn hrn csn (sK K)]) [0, 3, 1, 2] 4 rfl (by decide) hI
    have hp : r_11 = nI (fg b sz a) ∧ numE b sz a 0 ((n : Int) - 1) = .ok (fg b sz a, nx b sz a) ∧ wOk b sz (nx b sz a) w2_11 := hp
    obtain ⟨rfl, hok_11, hw_11⟩ := hp
    exact hret w2_11 (nI (fg b sz a)) _ _ _ _ _ _ dX13_one_14 hI (by show (nI (fg b sz a)) = nI (fg b sz a) ∧ numE b sz a 0 ((n : Int) - 1) = .ok (fg b sz a, nx b sz a) ∧ wOk b sz (nx b sz a) w2_11; exact ⟨rfl, hok_11, hw_11⟩) (by omega) (by omega) rfl

theorem c13_other (l : Launch) (E : En) (o : Nat) (tq : Nat) (adn : Nat → Nat) (ivn : Nat → Int32) (hrn : Nat → Int32) (csn : Nat → Int32) (fT : Nat → Int32)  (b : Nat → Nat) (sz a : Nat)(wz : WD) (K : Nat → Nat → Int32) (n : Nat) (p : Nat) (hlt : l.stackTraces = false) (htp : tpOk fT b sz) (hsz : sz ≤ 250) (ha : a ≤ sz) (hw : wOk b sz a wz) (hn : ivn 3 = nI n) (hn7 : n ≤ 7) (hp9 : p ≤ 7) : XtI l E yX13_other (ws_ yX13_other cX13_other 2 (some FieldType.int)) 10 (4 * (1 + (nx b sz (nx b sz a) - nx b sz a))) (1024 * (1 + (nx b sz (nx b sz a) - nx b sz a))) [.ref o, .int (nI p)] (rdO E o tq sz (adn 10) (atC b sz a) (fr b sz a) (wdR E b sz a wz) (nuC b sz a) ++ (tW E adn ivn hrn csn (sK K) ++ (tpW E tq fT ++ (wdW E b sz a wz)))) (fun (r : Int32) (u : WD) => r = nI (fg b sz a) ∧ ¬ (kd b sz a = 2 ∧ fg b sz a = p) ∧ numE b sz a 0 ((n : Int) - 1) = .ok (fg b sz a, nx b sz a) ∧ wOk b sz (nx b sz a) u) (fun (u : WD) => rdO E o tq sz (adn 10) (atC b sz (nx b sz a)) (fr b sz (nx b sz a)) (wdR E b sz (nx b sz a) u) (nuC b sz (nx b sz a)) ++ (tW E adn ivn hrn csn (sK K) ++ (tpW E tq fT ++ (wdW E b sz (nx b sz a) u)))) (fun (En : String) (u : Unit) => En = "ThreeStrangers$Fault" ∧ ((kd b sz a = 2 ∧ fg b sz a = p) ∨ (¬ (kd b sz a = 2 ∧ fg b sz a = p) ∧ numE b sz a 0 ((n : Int) - 1) = .error (fr b sz a)))) (fun (u : Unit) (q : Nat) => tpW E tq fT ++ ([(q, .inr (13, [.null, .null, .null, .null, .null, .int 0, .int (nI (fr b sz a))]))])) := by
  have hnu := nuC_i (b := b) (sz := sz) (a := a)
  refine XtI.of (by decide +kernel) (Nat.le_of_ble_eq_true rfl) ?_
  intro pR eR sR mR aR bR tR cR AR ls QR hxR hbR hmlR hts hown hlk hnm hA hK hI hl hret hthr
  have hl : lv_has ls 2 [(0, .ref o), (1, .int (nI p))] := hl
  refine lv_aload_n hxR hbR dX13_other_0 rfl (lv_at hl 0 rfl) ?_
  refine r_get hxR hbR hts hown hK hI okX13 (ci := 12) rfl 0 (he_l rfl) 6 (by decide) q811 rfl (v := .int (nuC b sz a)) rfl dX13_other_1 ?_
  refine lv_iload_n hxR hbR dX13_other_4 rfl (lv_at hl 1 rfl) ?_
  refine lv_icmp_ne (tgt := 13) hxR hbR dX13_other_5 (by decide) (fun c_5 => ?_) (fun c_5 => ?_)
  · skip
    have i_5 : ¬ ((nuC b sz a).toInt = (p : Int)) := by have zz := mt i_eq.mpr c_5; rw [nI_toInt (n := p) (by omega)] at zz; exact zz
    refine lv_aload_n hxR hbR dX13_other_13 rfl (lv_at hl 0 rfl) ?_
    refine kVIX (n := 0) (As := []) (rest := []) (fun w => w) hxR hbR hmlR hts hown hK hA hl.1 isCtx.id hI (c13_one l E o tq adn ivn hrn csn fT b sz a wz K n hlt (by first | omega | with_reducible assumption) (by first | omega | with_reducible assumption) (by first | omega | with_reducible assumption) (by first | omega | with_reducible assumption) hn (by first | omega | with_reducible assumption)) (lw_V q1129 q1131 qs14 q107 q1132) ⟨rfl, by decide +kernel⟩ 0 12 rfl rfl (he_l rfl) rfl (Nat.le_of_ble_eq_true rfl) (Nat.le_of_ble_eq_true rfl) ⟨by omega, by omega⟩ (Nat.le_of_ble_eq_true rfl) dX13_other_14 (fun En ce_14 q_14 u H locs hX hI hz hq1 hq2 hq3 => ?_) (fun r_14 u H locs hp hI hz => ?_)
    · skip
      have hI : wI E AR sR H locs (tpW E tq fT ++ ([(q_14, .inr (13, [.null, .null, .null, .null, .null, .int 0, .int (nI (fr b sz a))]))])) := hI
      have hX : En = "ThreeStrangers$Fault" ∧ numE b sz a 0 ((n : Int) - 1) = .error (fr b sz a) := hX
      obtain ⟨rfl, hok_14⟩ := hX
      exact hthr () _ _ _ _ _ _ _ _ _ _ hq1 hq2 hq3 hI ⟨rfl, (Or.inr ⟨(by omega), hok_14⟩)⟩ (by omega) (by omega)
    · skip
      obtain ⟨w2_14, rfl⟩ : ∃ z, z = u := ⟨_, rfl⟩
      have hI : wI E AR sR H locs (rdO E o tq sz (adn 10) (atC b sz (nx b sz a)) (fr b sz (nx b sz a)) (wdR E b sz (nx b sz a) w2_14) (nuC b sz (nx b sz a)) ++ (tW E adn ivn hrn csn (sK K) ++ (tpW E tq fT ++ (wdW E b sz (nx b sz a) w2_14)))) := hI
      have hp : r_14 = nI (fg b sz a) ∧ numE b sz a 0 ((n : Int) - 1) = .ok (fg b sz a, nx b sz a) ∧ wOk b sz (nx b sz a) w2_14 := hp
      obtain ⟨rfl, hok_14, hw_14⟩ := hp
      exact hret w2_14 (nI (fg b sz a)) _ _ _ _ _ _ dX13_other_17 hI (by show (nI (fg b sz a)) = nI (fg b sz a) ∧ ¬ (kd b sz a = 2 ∧ fg b sz a = p) ∧ numE b sz a 0 ((n : Int) - 1) = .ok (fg b sz a, nx b sz a) ∧ wOk b sz (nx b sz a) w2_14; exact ⟨rfl, by omega, hok_14, hw_14⟩) (by omega) (by omega) rfl
  · skip
    have i_5 : (nuC b sz a).toInt = (p : Int) := by have zz := i_eq.mp c_5; rw [nI_toInt (n := p) (by omega)] at zz; exact zz
    refine lv_aload_n hxR hbR dX13_other_8 rfl (lv_at hl 0 rfl) ?_
    have hI : wI E AR sR _ _ (tW E adn ivn hrn csn (sK K) ++ (tpW E tq fT ++ (wdW E b sz a wz ++ (rdO E o tq sz (adn 10) (atC b sz a) (fr b sz a) (wdR E b sz a wz) (nuC b sz a))))) := wI_pick ([rdO E o tq sz (adn 10) (atC b sz a) (fr b sz a) (wdR E b sz a wz) (nuC b sz a), tW E adn ivn hrn csn (sK K), tpW E tq fT, wdW E b sz a wz]) [1, 2, 3, 0] 4 rfl (by decide) hI
    have hI := wI_w app3 hI
    refine kVR (n := 0) (As := []) (rest := []) (fun w => (tW E adn ivn hrn csn (sK K) ++ (tpW E tq fT ++ (wdW E b sz a wz))) ++ w) hxR hbR hmlR hts hown hK hA hl.1 (isCtx.pre _) hI (c13_wrong l E o tq (adn 10) (atC b sz a) (fr b sz a) (wdR E b sz a wz) (nuC b sz a) sz ) (lw_V q1030 q1032 qs11 q107 q1033) ⟨rfl, by decide +kernel⟩ 0 12 rfl rfl rfl rfl (Nat.le_of_ble_eq_true rfl) (Nat.le_of_ble_eq_true rfl) ⟨by omega, by omega⟩ (Nat.le_of_ble_eq_true rfl) dX13_other_9 (fun u r_9 H locs hp hI hz => ?_)
    have hI := wI_w app3.symm hI
    have hI : wI E AR sR H locs (tW E adn ivn hrn csn (sK K) ++ (tpW E tq fT ++ (wdW E b sz a wz ++ (rdO E o tq sz (adn 10) (atC b sz a) (fr b sz a) (wdR E b sz a wz) (nuC b sz a) ++ ([(r_9, .inr (13, [.null, .null, .null, .null, .null, .int 0, .int (nI (fr b sz a))]))]))))) := hI
    have hI : wI E AR sR _ _ (tW E adn ivn hrn csn (sK K) ++ (wdW E b sz a wz ++ (rdO E o tq sz (adn 10) (atC b sz a) (fr b sz a) (wdR E b sz a wz) (nuC b sz a) ++ (tpW E tq fT ++ ([(r_9, .inr (13, [.null, .null, .null, .null, .null, .int 0, .int (nI (fr b sz a))]))]))))) := wI_pick ([tW E adn ivn hrn csn (sK K), tpW E tq fT, wdW E b sz a wz, rdO E o tq sz (adn 10) (atC b sz a) (fr b sz a) (wdR E b sz a wz) (nuC b sz a), [(r_9, .inr (13, [.null, .null, .null, .null, .null, .int 0, .int (nI (fr b sz a))]))]]) [0, 2, 3, 1, 4] 5 rfl (by decide) hI
    have hI := wI_dropL hI
    have hI := wI_dropL hI
    have hI := wI_dropL hI
    have hI : wI E AR sR _ _ (tpW E tq fT ++ ([(r_9, .inr (13, [.null, .null, .null, .null, .null, .int 0, .int (nI (fr b sz a))]))])) := hI
    refine vx_athrow hxR hbR dX13_other_12 ?_
    obtain ⟨ce_12, hq1, hq2, hq3⟩ := wI_thrown hK hI (ci := 13) (nm := "ThreeStrangers$Fault") rfl rfl (q0 := (1 + 0)) (he_r (Nat.le_of_ble_eq_true rfl) (Nat.le_of_ble_eq_true rfl) rfl)
    exact hthr () _ _ _ _ _ _ _ _ _ _ hq1 hq2 hq3 hI ⟨rfl, (Or.inl (by omega))⟩ (by omega) (by omega)

/-- a person told behind the word at a -/
def perE (b : Nat → Nat) (sz n a : Nat) : Except Nat (Nat × Nat × Nat) := if n = 7 then .error (fr b sz a) else match numE b sz (nx b sz a) 0 23 with
  | .error f => .error f
  | .ok (h, p) => match numE b sz p 0 9 with
    | .error f => .error f
    | .ok (c, p2) => .ok (h, c, p2)
section PER
variable {b : Nat → Nat} {sz n a f h p c p2 : Nat}
theorem perE_7 (hn : n = 7) : perE b sz n a = .error (fr b sz a) := if_pos hn
theorem perE_1 (hn : ¬ n = 7) (e : numE b sz (nx b sz a) 0 23 = .error f) : perE b sz n a = .error f := by unfold perE; rw [if_neg hn, e]
theorem perE_2 (hn : ¬ n = 7) (e : numE b sz (nx b sz a) 0 23 = .ok (h, p)) (e2 : numE b sz p 0 9 = .error f) : perE b sz n a = .error f := by unfold perE; rw [if_neg hn, e]; dsimp only; rw [e2]
theorem perE_3 (hn : ¬ n = 7) (e : numE b sz (nx b sz a) 0 23 = .ok (h, p)) (e2 : numE b sz p 0 9 = .ok (c, p2)) : perE b sz n a = .ok (h, c, p2) := by unfold perE; rw [if_neg hn, e]; dsimp only; rw [e2]
end PER

theorem c13_person (l : Launch) (E : En) (o : Nat) (tq : Nat) (wd : Option Nat) (adn : Nat → Nat) (ivn : Nat → Int32) (hrn : Nat → Int32) (csn : Nat → Int32) (fT : Nat → Int32)  (b : Nat → Nat) (sz a : Nat)(K : Nat → Nat → Int32) (n : Nat)  (hlt : l.stackTraces = false) (htp : tpOk fT b sz) (hsz : sz ≤ 250) (ha : a ≤ sz) (hn : ivn 3 = nI n) (hn7 : n ≤ 7) (hka : kd b sz a = 1) : XtV l E yX13_person (ws_ yX13_person cX13_person 2 none) 9 (4 * (3 + (nx b sz (nx b sz (nx b sz (nx b sz a))) - nx b sz a))) (1024 * (3 + (nx b sz (nx b sz (nx b sz (nx b sz a))) - nx b sz a))) [.ref o] (rdO E o tq sz (adn 10) (atC b sz a) (fr b sz a) wd (nuC b sz a) ++ (tW E adn ivn hrn csn (sK K) ++ (tpW E tq fT ++ (([] : va_W))))) (fun (u : WD) => perE b sz n a = .ok (fg b sz (nx b sz a), fg b sz (nx b sz (nx b sz a)), (nx b sz (nx b sz (nx b sz a)))) ∧ wOk b sz (nx b sz (nx b sz (nx b sz a))) u ∧ n < 7) (fun (u : WD) => rdO E o tq sz (adn 10) (atC b sz (nx b sz (nx b sz (nx b sz a)))) (fr b sz (nx b sz (nx b sz (nx b sz a)))) (wdR E b sz (nx b sz (nx b sz (nx b sz a))) u) (nuC b sz (nx b sz (nx b sz (nx b sz a)))) ++ (tW E adn (va_up ivn 3 (nI (n + 1))) (va_up hrn n (nI (fg b sz (nx b sz a)))) (va_up csn n (nI (fg b sz (nx b sz (nx b sz a))))) (sK (newK K n n)) ++ (tpW E tq fT ++ (wdW E b sz (nx b sz (nx b sz (nx b sz a))) u)))) (fun (En : String) (u : Nat) => En = "ThreeStrangers$Fault" ∧ perE b sz n a = .error u) (fun (u : Nat) (q : Nat) => tpW E tq fT ++ ([(q, .inr (13, [.null, .null, .null, .null, .null, .int 0, .int (nI u)]))])) := by
  have hna := nx_le (b := b) ha
  have hna2 := nx_le (b := b) hna
  have hna3 := nx_le (b := b) hna2
  have hg1 := nx2_le (b := b) ha
  have hg2 := nx2_le (b := b) hna
  have hg3 := nx2_le (b := b) hna2
  refine XtV.of (by decide +kernel) (Nat.le_of_ble_eq_true rfl) ?_
  intro pR eR sR mR aR bR tR cR AR ls QR hxR hbR hmlR hts hown hlk hnm hA hK hI hl hret hthr
  have hl : lv_has ls 2 [(0, .ref o)] := hl
  refine lv_aload_n hxR hbR dX13_person_0 rfl (lv_at hl 0 rfl) ?_
  refine r_get hxR hbR hts hown hK hI okX13 (ci := 12) rfl 0 (he_l rfl) 2 (by decide) q806 rfl (v := .ref (adn 10)) rfl dX13_person_1 ?_
  refine r_get hxR hbR hts hown hK hI okX1 (ci := 1) rfl (1 + 0) (he_r (Nat.le_of_ble_eq_true rfl) (Nat.le_of_ble_eq_true rfl) (he_l tW_o)) 3 (by decide) q143 rfl (v := .int (nI n)) (al hn) dX13_person_4 ?_
  refine lv_bipush (v := 7) hxR hbR dX13_person_7 (by decide) ?_
  refine lv_icmp_ne (tgt := 17) hxR hbR dX13_person_9 (by decide) (fun c_9 => ?_) (fun c_9 => ?_)
  · skip
    have c_9 : ¬ n = 7 := fun zz => c_9 ((n_eq (a := n) (b := 7) (by omega) (by omega)).mpr zz)
    refine lv_aload_n hxR hbR dX13_person_17 rfl (lv_at hl 0 rfl) ?_
    have hat : atC b sz a = nx b sz a := atC_k hka (by decide)
    have hI := wI_w (ws' := rdO E o tq sz (adn 10) (nx b sz a) (fr b sz a) wd (nuC b sz a) ++ (tW E adn ivn hrn csn (sK K) ++ (tpW E tq fT ++ (([] : va_W))))) (by rw [hat]) hI
    have hI : wI E AR sR _ _ (rdO E o tq sz (adn 10) (nx b sz a) (fr b sz a) wd (nuC b sz a) ++ (tpW E tq fT ++ (([] : va_W) ++ (tW E adn ivn hrn csn (sK K))))) := wI_pick ([rdO E o tq sz (adn 10) (nx b sz a) (fr b sz a) wd (nuC b sz a), tW E adn ivn hrn csn (sK K), tpW E tq fT, ([] : va_W)]) [0, 2, 3, 1] 4 rfl (by decide) hI
    have hI := wI_w app3 hI
    refine kVV (n := 0) (As := []) (rest := []) (fun w => w ++ (tW E adn ivn hrn csn (sK K))) hxR hbR hmlR hts hown hK hA hl.1 (isCtx.suf _) hI (c13_next l E o tq (adn 10) (fr b sz a) wd (nuC b sz a) fT b sz (nx b sz a) (by first | omega | with_reducible assumption) (by first | omega | with_reducible assumption) (by first | omega | with_reducible assumption)) (lw_V q831 q833 qs8 q107 q834) ⟨rfl, by decide +kernel⟩ 0 12 rfl rfl (he_l rfl) rfl (Nat.le_of_ble_eq_true rfl) (Nat.le_of_ble_eq_true rfl) ⟨by omega, by omega⟩ (Nat.le_of_ble_eq_true rfl) dX13_person_18 (fun u H locs hp hI hz => ?_)
    obtain ⟨w_18, rfl⟩ : ∃ z, z = u := ⟨_, rfl⟩
    have hI := wI_w app3.symm hI
    have hI : wI E AR sR H locs (rdO E o tq sz (adn 10) (atC b sz (nx b sz a)) (fr b sz (nx b sz a)) (wdR E b sz (nx b sz a) w_18) (nuC b sz (nx b sz a)) ++ (tpW E tq fT ++ (wdW E b sz (nx b sz a) w_18 ++ (tW E adn ivn hrn csn (sK K))))) := hI
    have hI : wI E AR sR _ _ (rdO E o tq sz (adn 10) (atC b sz (nx b sz a)) (fr b sz (nx b sz a)) (wdR E b sz (nx b sz a) w_18) (nuC b sz (nx b sz a)) ++ (tW E adn ivn hrn csn (sK K) ++ (tpW E tq fT ++ (wdW E b sz (nx b sz a) w_18)))) := wI_pick ([rdO E o tq sz (adn 10) (atC b sz (nx b sz a)) (fr b sz (nx b sz a)) (wdR E b sz (nx b sz a) w_18) (nuC b sz (nx b sz a)), tpW E tq fT, wdW E b sz (nx b sz a) w_18, tW E adn ivn hrn csn (sK K)]) [0, 3, 1, 2] 4 rfl (by decide) hI
    have hp : wOk b sz (nx b sz a) w_18 := hp
    have hw_18 := hp
    refine lv_aload_n hxR hbR dX13_person_21 rfl (lv_at hl 0 rfl) ?_
    refine lv_iconst (v := 0) hxR hbR dX13_person_22 (by decide) ?_
    refine lv_bipush (v := 23) hxR hbR dX13_person_23 (by decide) ?_
    have hI : wI E AR sR _ _ (rdO E o tq sz (adn 10) (atC b sz (nx b sz a)) (fr b sz (nx b sz a)) (wdR E b sz (nx b sz a) w_18) (nuC b sz (nx b sz a)) ++ (tpW E tq fT ++ (wdW E b sz (nx b sz a) w_18 ++ (tW E adn ivn hrn csn (sK K))))) := wI_pick ([rdO E o tq sz (adn 10) (atC b sz (nx b sz a)) (fr b sz (nx b sz a)) (wdR E b sz (nx b sz a) w_18) (nuC b sz (nx b sz a)), tW E adn ivn hrn csn (sK K), tpW E tq fT, wdW E b sz (nx b sz a) w_18]) [0, 2, 3, 1] 4 rfl (by decide) hI
    have hI := wI_w app3 hI
    refine kVIX (n := 2) (As := [.int 0, .int 23]) (rest := []) (fun w => w ++ (tW E adn ivn hrn csn (sK K))) hxR hbR hmlR hts hown hK hA hl.1 (isCtx.suf _) hI (c13_number l E o tq (adn 10) fT b sz (nx b sz a) w_18 0 23 0 23 hlt (by first | omega | with_reducible assumption) (by first | omega | with_reducible assumption) (by first | omega | with_reducible assumption) (by first | omega | with_reducible assumption) rfl rfl (by omega) (by omega)) (lw_V q1124 q1126 qs13 q107 q1127) ⟨rfl, by decide +kernel⟩ 0 12 rfl rfl (he_l rfl) rfl (Nat.le_of_ble_eq_true rfl) (Nat.le_of_ble_eq_true rfl) ⟨by omega, by omega⟩ (Nat.le_of_ble_eq_true rfl) dX13_person_25 (fun En ce_25 q_25 u H locs hX hI hz hq1 hq2 hq3 => ?_) (fun r_25 u H locs hp hI hz => ?_)
    · skip
      have hI := wI_w app2.symm hI
      have hI : wI E AR sR H locs (tpW E tq fT ++ ([(q_25, .inr (13, [.null, .null, .null, .null, .null, .int 0, .int (nI (fr b sz (nx b sz a)))]))] ++ (tW E adn ivn hrn csn (sK K)))) := hI
      have hI : wI E AR sR _ _ (tW E adn ivn hrn csn (sK K) ++ (tpW E tq fT ++ ([(q_25, .inr (13, [.null, .null, .null, .null, .null, .int 0, .int (nI (fr b sz (nx b sz a)))]))]))) := wI_pick ([tpW E tq fT, [(q_25, .inr (13, [.null, .null, .null, .null, .null, .int 0, .int (nI (fr b sz (nx b sz a)))]))], tW E adn ivn hrn csn (sK K)]) [2, 0, 1] 3 rfl (by decide) hI
      have hX : En = "ThreeStrangers$Fault" ∧ numE b sz (nx b sz a) 0 23 = .error (fr b sz (nx b sz a)) := hX
      obtain ⟨rfl, hok_25⟩ := hX
      have hI := wI_dropL hI
      have hI : wI E AR sR _ _ (tpW E tq fT ++ ([(q_25, .inr (13, [.null, .null, .null, .null, .null, .int 0, .int (nI (fr b sz (nx b sz a)))]))])) := hI
      exact hthr (fr b sz (nx b sz a)) _ _ _ _ _ _ _ _ _ _ hq1 hq2 hq3 hI ⟨rfl, (perE_1 c_9 hok_25)⟩ (by omega) (by omega)
    · skip
      obtain ⟨w2_25, rfl⟩ : ∃ z, z = u := ⟨_, rfl⟩
      have hI := wI_w app3.symm hI
      have hI : wI E AR sR H locs (rdO E o tq sz (adn 10) (atC b sz (nx b sz (nx b sz a))) (fr b sz (nx b sz (nx b sz a))) (wdR E b sz (nx b sz (nx b sz a)) w2_25) (nuC b sz (nx b sz (nx b sz a))) ++ (tpW E tq fT ++ (wdW E b sz (nx b sz (nx b sz a)) w2_25 ++ (tW E adn ivn hrn csn (sK K))))) := hI
      have hI : wI E AR sR _ _ (rdO E o tq sz (adn 10) (atC b sz (nx b sz (nx b sz a))) (fr b sz (nx b sz (nx b sz a))) (wdR E b sz (nx b sz (nx b sz a)) w2_25) (nuC b sz (nx b sz (nx b sz a))) ++ (tW E adn ivn hrn csn (sK K) ++ (tpW E tq fT ++ (wdW E b sz (nx b sz (nx b sz a)) w2_25)))) := wI_pick ([rdO E o tq sz (adn 10) (atC b sz (nx b sz (nx b sz a))) (fr b sz (nx b sz (nx b sz a))) (wdR E b sz (nx b sz (nx b sz a)) w2_25) (nuC b sz (nx b sz (nx b sz a))), tpW E tq fT, wdW E b sz (nx b sz (nx b sz a)) w2_25, tW E adn ivn hrn csn (sK K)]) [0, 3, 1, 2] 4 rfl (by decide) hI
      have hp : r_25 = nI (fg b sz (nx b sz a)) ∧ numE b sz (nx b sz a) 0 23 = .ok (fg b sz (nx b sz a), nx b sz (nx b sz a)) ∧ wOk b sz (nx b sz (nx b sz a)) w2_25 := hp
      obtain ⟨rfl, hok_25, hw_25⟩ := hp
      refine lv_istore_n (lv' := [(1, .int (nI (fg b sz (nx b sz a)))), (0, .ref o)]) hxR hbR dX13_person_28 rfl hl (by decide) rfl (fun ls hl => ?_)
      refine lv_aload_n hxR hbR dX13_person_29 rfl (lv_at hl 1 rfl) ?_
      refine r_get hxR hbR hts hown hK hI okX13 (ci := 12) rfl 0 (he_l rfl) 2 (by decide) q806 rfl (v := .ref (adn 10)) rfl dX13_person_30 ?_
      refine lv_iload_n hxR hbR dX13_person_33 rfl (lv_at hl 0 rfl) ?_
      refine lv_aload_n hxR hbR dX13_person_34 rfl (lv_at hl 1 rfl) ?_
      refine lv_iconst (v := 0) hxR hbR dX13_person_35 (by decide) ?_
      refine lv_bipush (v := 9) hxR hbR dX13_person_36 (by decide) ?_
      have hI : wI E AR sR _ _ (rdO E o tq sz (adn 10) (atC b sz (nx b sz (nx b sz a))) (fr b sz (nx b sz (nx b sz a))) (wdR E b sz (nx b sz (nx b sz a)) w2_25) (nuC b sz (nx b sz (nx b sz a))) ++ (tpW E tq fT ++ (wdW E b sz (nx b sz (nx b sz a)) w2_25 ++ (tW E adn ivn hrn csn (sK K))))) := wI_pick ([rdO E o tq sz (adn 10) (atC b sz (nx b sz (nx b sz a))) (fr b sz (nx b sz (nx b sz a))) (wdR E b sz (nx b sz (nx b sz a)) w2_25) (nuC b sz (nx b sz (nx b sz a))), tW E adn ivn hrn csn (sK K), tpW E tq fT, wdW E b sz (nx b sz (nx b sz a)) w2_25]) [0, 2, 3, 1] 4 rfl (by decide) hI
      have hI := wI_w app3 hI
      refine kVIX (n := 2) (As := [.int 0, .int 9]) (rest := [.int (nI (fg b sz (nx b sz a))), .ref (adn 10)]) (fun w => w ++ (tW E adn ivn hrn csn (sK K))) hxR hbR hmlR hts hown hK hA hl.1 (isCtx.suf _) hI (c13_number l E o tq (adn 10) fT b sz (nx b sz (nx b sz a)) w2_25 0 9 0 9 hlt (by first | omega | with_reducible assumption) (by first | omega | with_reducible assumption) (by first | omega | with_reducible assumption) (by first | omega | with_reducible assumption) rfl rfl (by omega) (by omega)) (lw_V q1124 q1126 qs13 q107 q1127) ⟨rfl, by decide +kernel⟩ 0 12 rfl rfl (he_l rfl) rfl (Nat.le_of_ble_eq_true rfl) (Nat.le_of_ble_eq_true rfl) ⟨by omega, by omega⟩ (Nat.le_of_ble_eq_true rfl) dX13_person_38 (fun En ce_38 q_38 u H locs hX hI hz hq1 hq2 hq3 => ?_) (fun r_38 u H locs hp hI hz => ?_)
      · skip
        have hI := wI_w app2.symm hI
        have hI : wI E AR sR H locs (tpW E tq fT ++ ([(q_38, .inr (13, [.null, .null, .null, .null, .null, .int 0, .int (nI (fr b sz (nx b sz (nx b sz a))))]))] ++ (tW E adn ivn hrn csn (sK K)))) := hI
        have hI : wI E AR sR _ _ (tW E adn ivn hrn csn (sK K) ++ (tpW E tq fT ++ ([(q_38, .inr (13, [.null, .null, .null, .null, .null, .int 0, .int (nI (fr b sz (nx b sz (nx b sz a))))]))]))) := wI_pick ([tpW E tq fT, [(q_38, .inr (13, [.null, .null, .null, .null, .null, .int 0, .int (nI (fr b sz (nx b sz (nx b sz a))))]))], tW E adn ivn hrn csn (sK K)]) [2, 0, 1] 3 rfl (by decide) hI
        have hX : En = "ThreeStrangers$Fault" ∧ numE b sz (nx b sz (nx b sz a)) 0 9 = .error (fr b sz (nx b sz (nx b sz a))) := hX
        obtain ⟨rfl, hok_38⟩ := hX
        have hI := wI_dropL hI
        have hI : wI E AR sR _ _ (tpW E tq fT ++ ([(q_38, .inr (13, [.null, .null, .null, .null, .null, .int 0, .int (nI (fr b sz (nx b sz (nx b sz a))))]))])) := hI
        exact hthr (fr b sz (nx b sz (nx b sz a))) _ _ _ _ _ _ _ _ _ _ hq1 hq2 hq3 hI ⟨rfl, (perE_2 c_9 hok_25 hok_38)⟩ (by omega) (by omega)
      · skip
        obtain ⟨w2_38, rfl⟩ : ∃ z, z = u := ⟨_, rfl⟩
        have hI := wI_w app3.symm hI
        have hI : wI E AR sR H locs (rdO E o tq sz (adn 10) (atC b sz (nx b sz (nx b sz (nx b sz a)))) (fr b sz (nx b sz (nx b sz (nx b sz a)))) (wdR E b sz (nx b sz (nx b sz (nx b sz a))) w2_38) (nuC b sz (nx b sz (nx b sz (nx b sz a)))) ++ (tpW E tq fT ++ (wdW E b sz (nx b sz (nx b sz (nx b sz a))) w2_38 ++ (tW E adn ivn hrn csn (sK K))))) := hI
        have hI : wI E AR sR _ _ (rdO E o tq sz (adn 10) (atC b sz (nx b sz (nx b sz (nx b sz a)))) (fr b sz (nx b sz (nx b sz (nx b sz a)))) (wdR E b sz (nx b sz (nx b sz (nx b sz a))) w2_38) (nuC b sz (nx b sz (nx b sz (nx b sz a)))) ++ (tW E adn ivn hrn csn (sK K) ++ (tpW E tq fT ++ (wdW E b sz (nx b sz (nx b sz (nx b sz a))) w2_38)))) := wI_pick ([rdO E o tq sz (adn 10) (atC b sz (nx b sz (nx b sz (nx b sz a)))) (fr b sz (nx b sz (nx b sz (nx b sz a)))) (wdR E b sz (nx b sz (nx b sz (nx b sz a))) w2_38) (nuC b sz (nx b sz (nx b sz (nx b sz a)))), tpW E tq fT, wdW E b sz (nx b sz (nx b sz (nx b sz a))) w2_38, tW E adn ivn hrn csn (sK K)]) [0, 3, 1, 2] 4 rfl (by decide) hI
        have hp : r_38 = nI (fg b sz (nx b sz (nx b sz a))) ∧ numE b sz (nx b sz (nx b sz a)) 0 9 = .ok (fg b sz (nx b sz (nx b sz a)), nx b sz (nx b sz (nx b sz a))) ∧ wOk b sz (nx b sz (nx b sz (nx b sz a))) w2_38 := hp
        obtain ⟨rfl, hok_38, hw_38⟩ := hp
        refine kVI (n := 2) (As := [.int (nI (fg b sz (nx b sz a))), .int (nI (fg b sz (nx b sz (nx b sz a))))]) (rest := []) (fun w => (rdO E o tq sz (adn 10) (atC b sz (nx b sz (nx b sz (nx b sz a)))) (fr b sz (nx b sz (nx b sz (nx b sz a)))) (wdR E b sz (nx b sz (nx b sz (nx b sz a))) w2_38) (nuC b sz (nx b sz (nx b sz (nx b sz a))))) ++ (w ++ (tpW E tq fT ++ (wdW E b sz (nx b sz (nx b sz (nx b sz a))) w2_38)))) hxR hbR hmlR hts hown hK hA hl.1 (isCtx.mk _ _) hI (c1_adds l E adn ivn hrn csn K n (nI (fg b sz (nx b sz a))) (nI (fg b sz (nx b sz (nx b sz a)))) hn (by omega)) (lw_V q1128 q744 q745 q82 q746) ⟨rfl, by decide +kernel⟩ 0 1 rfl rfl tW_o rfl (Nat.le_of_ble_eq_true rfl) (Nat.le_of_ble_eq_true rfl) ⟨by omega, by omega⟩ (Nat.le_of_ble_eq_true rfl) dX13_person_41 (fun r_41 u H locs hp hI hz => ?_)
        have hI : wI E AR sR H locs (rdO E o tq sz (adn 10) (atC b sz (nx b sz (nx b sz (nx b sz a)))) (fr b sz (nx b sz (nx b sz (nx b sz a)))) (wdR E b sz (nx b sz (nx b sz (nx b sz a))) w2_38) (nuC b sz (nx b sz (nx b sz (nx b sz a)))) ++ (tW E adn (va_up ivn 3 (nI (n + 1))) (va_up hrn n (nI (fg b sz (nx b sz a)))) (va_up csn n (nI (fg b sz (nx b sz (nx b sz a))))) (sK (newK K n n)) ++ (tpW E tq fT ++ (wdW E b sz (nx b sz (nx b sz (nx b sz a))) w2_38)))) := hI
        have hp : r_41 = nI n := hp
        have hr_41 := hp
        subst hr_41
        refine lv_pop hxR hbR dX13_person_44 rfl ?_
        exact hret w2_38 _ _ _ _ _ _ dX13_person_45 hI (by show perE b sz n a = .ok (fg b sz (nx b sz a), fg b sz (nx b sz (nx b sz a)), (nx b sz (nx b sz (nx b sz a)))) ∧ wOk b sz (nx b sz (nx b sz (nx b sz a))) w2_38 ∧ n < 7; exact ⟨perE_3 c_9 hok_25 hok_38, hw_38, by omega⟩) (by omega) (by omega)
  · skip
    have c_9 : n = 7 := (n_eq (a := n) (b := 7) (by omega) (by omega)).mp c_9
    refine lv_aload_n hxR hbR dX13_person_12 rfl (lv_at hl 0 rfl) ?_
    have hI : wI E AR sR _ _ (tW E adn ivn hrn csn (sK K) ++ (tpW E tq fT ++ (([] : va_W) ++ (rdO E o tq sz (adn 10) (atC b sz a) (fr b sz a) wd (nuC b sz a))))) := wI_pick ([rdO E o tq sz (adn 10) (atC b sz a) (fr b sz a) wd (nuC b sz a), tW E adn ivn hrn csn (sK K), tpW E tq fT, ([] : va_W)]) [1, 2, 3, 0] 4 rfl (by decide) hI
    have hI := wI_w app3 hI
    refine kVR (n := 0) (As := []) (rest := []) (fun w => (tW E adn ivn hrn csn (sK K) ++ (tpW E tq fT ++ (([] : va_W)))) ++ w) hxR hbR hmlR hts hown hK hA hl.1 (isCtx.pre _) hI (c13_wrong l E o tq (adn 10) (atC b sz a) (fr b sz a) wd (nuC b sz a) sz ) (lw_V q1030 q1032 qs11 q107 q1033) ⟨rfl, by decide +kernel⟩ 0 12 rfl rfl rfl rfl (Nat.le_of_ble_eq_true rfl) (Nat.le_of_ble_eq_true rfl) ⟨by omega, by omega⟩ (Nat.le_of_ble_eq_true rfl) dX13_person_13 (fun u r_13 H locs hp hI hz => ?_)
    have hI := wI_w app3.symm hI
    have hI : wI E AR sR H locs (tW E adn ivn hrn csn (sK K) ++ (tpW E tq fT ++ (([] : va_W) ++ (rdO E o tq sz (adn 10) (atC b sz a) (fr b sz a) wd (nuC b sz a) ++ ([(r_13, .inr (13, [.null, .null, .null, .null, .null, .int 0, .int (nI (fr b sz a))]))]))))) := hI
    have hI : wI E AR sR _ _ (tW E adn ivn hrn csn (sK K) ++ (([] : va_W) ++ (rdO E o tq sz (adn 10) (atC b sz a) (fr b sz a) wd (nuC b sz a) ++ (tpW E tq fT ++ ([(r_13, .inr (13, [.null, .null, .null, .null, .null, .int 0, .int (nI (fr b sz a))]))]))))) := wI_pick ([tW E adn ivn hrn csn (sK K), tpW E tq fT, ([] : va_W), rdO E o tq sz (adn 10) (atC b sz a) (fr b sz a) wd (nuC b sz a), [(r_13, .inr (13, [.null, .null, .null, .null, .null, .int 0, .int (nI (fr b sz a))]))]]) [0, 2, 3, 1, 4] 5 rfl (by decide) hI
    have hI := wI_dropL hI
    have hI := wI_dropL hI
    have hI := wI_dropL hI
    have hI : wI E AR sR _ _ (tpW E tq fT ++ ([(r_13, .inr (13, [.null, .null, .null, .null, .null, .int 0, .int (nI (fr b sz a))]))])) := hI
    refine vx_athrow hxR hbR dX13_person_16 ?_
    obtain ⟨ce_16, hq1, hq2, hq3⟩ := wI_thrown hK hI (ci := 13) (nm := "ThreeStrangers$Fault") rfl rfl (q0 := (1 + 0)) (he_r (Nat.le_of_ble_eq_true rfl) (Nat.le_of_ble_eq_true rfl) rfl)
    exact hthr (fr b sz a) _ _ _ _ _ _ _ _ _ _ hq1 hq2 hq3 hI ⟨rfl, (perE_7 (by omega))⟩ (by omega) (by omega)
