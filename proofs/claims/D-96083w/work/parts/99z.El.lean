/-! THE READER: its object, the tape, the word that it has read; a: where the token was looked for -/
abbrev WD : Type := Nat × Nat × (Nat → Int32)
def rdO (E : En) (o tq sz tn ra fm : Nat) (wd : Option Nat) (nu : Int32) : va_W := [(o, .inr (12, [.ref tq, .int (nI sz), .ref tn, .int (nI ra), .int (nI fm), va_rf wd, .int nu]))]
def tpW (E : En) (tq : Nat) (f : Nat → Int32) : va_W := [(tq, .inl (E.2 0, 250, .inl f))]
def atC (b : Nat → Nat) (sz a : Nat) : Nat := if kd b sz a = 4 then fr b sz a else nx b sz a
def nuC (b : Nat → Nat) (sz a : Nat) : Int32 := if kd b sz a = 2 then (if 2 < nx b sz a - fr b sz a then 100 else nI (fg b sz a)) else -1
def wdR (E : En) (b : Nat → Nat) (sz a : Nat) (w : WD) : Option Nat := if kd b sz a = 1 then some w.1 else if kd b sz a = 3 then some (E.1.2.1 0) else none
def wdW (E : En) (b : Nat → Nat) (sz a : Nat) (w : WD) : va_W := if kd b sz a = 1 then strH E w.1 w.2.1 (nx b sz a - fr b sz a) w.2.2 0 0 else []
def wOk (b : Nat → Nat) (sz a : Nat) (w : WD) : Prop := kd b sz a = 1 → ∀ j, j < nx b sz a - fr b sz a → w.2.2 j = nI (b (fr b sz a + j))
section RDR
variable {b : Nat → Nat} {sz a : Nat}
theorem kd_1i (h : kd b sz a = 1) : ¬ fr b sz a = sz ∧ bLet (b (fr b sz a)) = true := by
  unfold kd at h
  split at h
  · exact absurd h (by decide)
  · rename_i h1
    split at h
    · rename_i h2; exact ⟨h1, h2⟩
    · split at h
      · exact absurd h (by decide)
      · split at h <;> exact absurd h (by decide)
theorem kd_2i (h : kd b sz a = 2) : ¬ fr b sz a = sz ∧ ¬ bLet (b (fr b sz a)) = true ∧ bDig (b (fr b sz a)) = true := by
  unfold kd at h
  split at h
  · exact absurd h (by decide)
  · rename_i h1
    split at h
    · exact absurd h (by decide)
    · rename_i h2
      split at h
      · rename_i h3; exact ⟨h1, h2, h3⟩
      · split at h <;> exact absurd h (by decide)
theorem atC_n (h : ¬ kd b sz a = 4) : atC b sz a = nx b sz a := if_neg h
theorem wdW_n {E : En} {w : WD} (h : ¬ kd b sz a = 1) : wdW E b sz a w = [] := if_neg h
theorem fgN_9 {x : Nat} : ∀ k, k ≤ 2 → (∀ j, j < k → bDig (b (x + j)) = true) → (k ≤ 2 → fgN b x k ≤ 99) ∧ (k ≤ 1 → fgN b x k ≤ 9) ∧ (k ≤ 0 → fgN b x k = 0)
  | 0, _, _ => ⟨fun _ => Nat.zero_le _, fun _ => Nat.zero_le _, fun _ => rfl⟩
  | 1, _, h => by
    have h0 := bDig_ge (h 0 (by decide))
    have e : fgN b x 1 = 0 * 10 + b (x + 0) - 48 := rfl
    exact ⟨fun _ => by omega, fun _ => by omega, fun z => absurd z (by decide)⟩
  | 2, _, h => by
    have h0 := bDig_ge (h 0 (by decide))
    have h1 := bDig_ge (h 1 (by decide))
    have e : fgN b x 2 = (0 * 10 + b (x + 0) - 48) * 10 + b (x + 1) - 48 := rfl
    exact ⟨fun _ => by omega, fun z => absurd z (by decide), fun z => absurd z (by decide)⟩
  | k + 3, hk, _ => absurd hk (by omega)
/-- the number that is told of a token -/
theorem nuC_c : (kd b sz a = 2 ∧ nuC b sz a = nI (fg b sz a) ∧ fg b sz a ≤ 99) ∨ (kd b sz a = 2 ∧ nuC b sz a = 100 ∧ 99 < fg b sz a) ∨ (¬ kd b sz a = 2 ∧ nuC b sz a = -1) := by
  by_cases hk : kd b sz a = 2
  · obtain ⟨h1, h2, h3⟩ := kd_2i hk
    have hn := nx_2 h1 h2 h3
    have hd : ∀ j, fr b sz a ≤ j → j < nx b sz a → bDig (b j) = true := fun j g1 g2 => whl_all g1 (hn ▸ g2)
    have hf := fg_2 hk
    by_cases hl : 2 < nx b sz a - fr b sz a
    · refine Or.inr (Or.inl ⟨hk, ?_, ?_⟩)
      · unfold nuC; rw [if_pos hk, if_pos hl]
      · rw [hf, show nx b sz a - fr b sz a = (nx b sz a - fr b sz a - 1) + 1 by omega, fgN, if_neg (by omega)]
        decide
    · refine Or.inl ⟨hk, ?_, ?_⟩
      · unfold nuC; rw [if_pos hk, if_neg hl]
      · rw [hf]
        exact (fgN_9 _ (by omega) (fun j hj => hd _ (by omega) (by omega))).1 (by omega)
  · exact Or.inr (Or.inr ⟨hk, by unfold nuC; rw [if_neg hk]⟩)
theorem nuC_i : (kd b sz a = 2 ∧ (nuC b sz a).toInt = (fg b sz a : Int) ∧ fg b sz a ≤ 99) ∨ (kd b sz a = 2 ∧ (nuC b sz a).toInt = 100 ∧ 99 < fg b sz a) ∨ (¬ kd b sz a = 2 ∧ (nuC b sz a).toInt = -1) := by
  rcases nuC_c (b := b) (sz := sz) (a := a) with ⟨h1, h2, h3⟩ | ⟨h1, h2, h3⟩ | ⟨h1, h2⟩
  · exact Or.inl ⟨h1, by rw [h2]; exact nI_toInt (by omega), h3⟩
  · exact Or.inr (Or.inl ⟨h1, by rw [h2]; rfl, h3⟩)
  · exact Or.inr (Or.inr ⟨h1, by rw [h2]; rfl⟩)
theorem i2c_nat {x : Nat} (h : x < 256) : ((nI x).toUInt32 % 65536).toInt32 = nI x := by
  have key : ∀ x : Fin 256, ((nI x.val).toUInt32 % 65536).toInt32 = nI x.val := by decide +kernel
  exact key ⟨x, h⟩
end RDR

theorem c13_isIn (l : Launch) (E : En) (o : Nat) (tq : Nat) (tn : Nat) (ra : Nat) (fm : Nat) (wd : Option Nat) (nu : Int32) (fT : Nat → Int32) (b : Nat → Nat) (sz lo hi : Nat) (htp : tpOk fT b sz) (hsz : sz ≤ 250) (hlo : lo ≤ 200) (hhi : hi ≤ 200) (hra : ra ≤ sz) : CtI l E yX13_isIn cX13_isIn 3 .boolean 0 0 0 [.ref o, .int (nI lo), .int (nI hi)] (rdO E o tq sz tn ra fm wd nu ++ (tpW E tq fT)) (fun (r : Int32) (u : Unit) => r = b2i (decide (ra < sz ∧ lo ≤ b ra ∧ b ra ≤ hi))) (fun (u : Unit) => rdO E o tq sz tn ra fm wd nu ++ (tpW E tq fT)) := by
  refine CtI.of (by decide +kernel) (Nat.le_of_ble_eq_true rfl) ?_
  intro pR eR sR mR aR bR tR cR AR ls QR hxR hbR hmlR hts hown hlk hnm hA hK hI hl hret
  have hl : lv_has ls 3 [(0, .ref o), (1, .int (nI lo)), (2, .int (nI hi))] := hl
  refine lv_aload_n hxR hbR dX13_isIn_0 rfl (lv_at hl 0 rfl) ?_
  refine r_get hxR hbR hts hown hK hI okX13 (ci := 12) rfl 0 (he_l rfl) 3 (by decide) q808 rfl (v := .int (nI ra)) rfl dX13_isIn_1 ?_
  refine lv_aload_n hxR hbR dX13_isIn_4 rfl (lv_at hl 0 rfl) ?_
  refine r_get hxR hbR hts hown hK hI okX13 (ci := 12) rfl 0 (he_l rfl) 1 (by decide) q805 rfl (v := .int (nI sz)) rfl dX13_isIn_5 ?_
  refine lv_icmp_ge (tgt := 41) hxR hbR dX13_isIn_8 (by decide) (fun c_8 => ?_) (fun c_8 => ?_)
  · skip
    have c_8 : sz ≤ ra := (n_le (a := sz) (b := ra) (by omega) (by omega)).mp c_8
    refine lv_iconst (v := 0) hxR hbR dX13_isIn_41 (by decide) ?_
    exact hret () 0 _ _ _ _ _ _ dX13_isIn_42 hI (by show 0 = b2i (decide (ra < sz ∧ lo ≤ b ra ∧ b ra ≤ hi)); rw [decide_eq_false (fun z => by omega)]; rfl) (Nat.le_of_ble_eq_true rfl) (Nat.le_of_ble_eq_true rfl) rfl
  · skip
    have c_8 : ra < sz := Nat.lt_of_not_le (fun zz => c_8 ((n_le (a := sz) (b := ra) (by omega) (by omega)).mpr zz))
    have hb := (htp _ c_8).2
    refine lv_aload_n hxR hbR dX13_isIn_11 rfl (lv_at hl 0 rfl) ?_
    refine r_get hxR hbR hts hown hK hI okX13 (ci := 12) rfl 0 (he_l rfl) 0 (by decide) q804 rfl (v := .ref tq) rfl dX13_isIn_12 ?_
    refine lv_aload_n hxR hbR dX13_isIn_15 rfl (lv_at hl 0 rfl) ?_
    refine r_get hxR hbR hts hown hK hI okX13 (ci := 12) rfl 0 (he_l rfl) 3 (by decide) q808 rfl (v := .int (nI ra)) rfl dX13_isIn_16 ?_
    refine r_iald hxR hbR hK hI (1 + 0) (n := 250) (J := ra) (f := fT) (v := nI (b ra)) (he_r (Nat.le_of_ble_eq_true rfl) (Nat.le_of_ble_eq_true rfl) rfl) (by omega) (by decide) (htp _ c_8).1 dX13_isIn_19 ?_
    refine lv_iload_n hxR hbR dX13_isIn_20 rfl (lv_at hl 1 rfl) ?_
    refine lv_icmp_lt (tgt := 41) hxR hbR dX13_isIn_21 (by decide) (fun c_21 => ?_) (fun c_21 => ?_)
    · skip
      have c_21 : (b ra) < lo := (n_lt (a := (b ra)) (b := lo) (by omega) (by omega)).mp c_21
      refine lv_iconst (v := 0) hxR hbR dX13_isIn_41 (by decide) ?_
      exact hret () 0 _ _ _ _ _ _ dX13_isIn_42 hI (by show 0 = b2i (decide (ra < sz ∧ lo ≤ b ra ∧ b ra ≤ hi)); rw [decide_eq_false (fun z => by omega)]; rfl) (Nat.le_of_ble_eq_true rfl) (Nat.le_of_ble_eq_true rfl) rfl
    · skip
      have c_21 : lo ≤ (b ra) := Nat.le_of_not_lt (fun zz => c_21 ((n_lt (a := (b ra)) (b := lo) (by omega) (by omega)).mpr zz))
      refine lv_aload_n hxR hbR dX13_isIn_24 rfl (lv_at hl 0 rfl) ?_
      refine r_get hxR hbR hts hown hK hI okX13 (ci := 12) rfl 0 (he_l rfl) 0 (by decide) q804 rfl (v := .ref tq) rfl dX13_isIn_25 ?_
      refine lv_aload_n hxR hbR dX13_isIn_28 rfl (lv_at hl 0 rfl) ?_
      refine r_get hxR hbR hts hown hK hI okX13 (ci := 12) rfl 0 (he_l rfl) 3 (by decide) q808 rfl (v := .int (nI ra)) rfl dX13_isIn_29 ?_
      refine r_iald hxR hbR hK hI (1 + 0) (n := 250) (J := ra) (f := fT) (v := nI (b ra)) (he_r (Nat.le_of_ble_eq_true rfl) (Nat.le_of_ble_eq_true rfl) rfl) (by omega) (by decide) (htp _ c_8).1 dX13_isIn_32 ?_
      refine lv_iload_n hxR hbR dX13_isIn_33 rfl (lv_at hl 2 rfl) ?_
      refine lv_icmp_gt (tgt := 41) hxR hbR dX13_isIn_34 (by decide) (fun c_34 => ?_) (fun c_34 => ?_)
      · skip
        have c_34 : hi < (b ra) := (n_lt (a := hi) (b := (b ra)) (by omega) (by omega)).mp c_34
        refine lv_iconst (v := 0) hxR hbR dX13_isIn_41 (by decide) ?_
        exact hret () 0 _ _ _ _ _ _ dX13_isIn_42 hI (by show 0 = b2i (decide (ra < sz ∧ lo ≤ b ra ∧ b ra ≤ hi)); rw [decide_eq_false (fun z => by omega)]; rfl) (Nat.le_of_ble_eq_true rfl) (Nat.le_of_ble_eq_true rfl) rfl
      · skip
        have c_34 : (b ra) ≤ hi := Nat.le_of_not_lt (fun zz => c_34 ((n_lt (a := hi) (b := (b ra)) (by omega) (by omega)).mpr zz))
        refine lv_iconst (v := 1) hxR hbR dX13_isIn_37 (by decide) ?_
        refine lv_goto (tgt := 42) hxR hbR dX13_isIn_38 (by decide) ?_
        exact hret () 1 _ _ _ _ _ _ dX13_isIn_42 hI (by show 1 = b2i (decide (ra < sz ∧ lo ≤ b ra ∧ b ra ≤ hi)); rw [decide_eq_true (⟨c_8, c_21, c_34⟩ : ra < sz ∧ lo ≤ b ra ∧ b ra ≤ hi)]; rfl) (Nat.le_of_ble_eq_true rfl) (Nat.le_of_ble_eq_true rfl) rfl

theorem c13_wrong (l : Launch) (E : En) (o : Nat) (tq : Nat) (tn : Nat) (ra : Nat) (fm : Nat) (wd : Option Nat) (nu : Int32) (sz : Nat)  : CtR l E yX13_wrong cX13_wrong 1 (Jvm.ClassFile.FieldType.object "ThreeStrangers$Fault") 4 1 7 [.ref o] (rdO E o tq sz tn ra fm wd nu) (fun (u : Unit) => True) (fun (u : Unit) (q : Nat) => rdO E o tq sz tn ra fm wd nu ++ ([(q, .inr (13, [.null, .null, .null, .null, .null, .int 0, .int (nI fm)]))])) := by
  refine CtR.of (by decide +kernel) (Nat.le_of_ble_eq_true rfl) (by first | exact Or.inl ⟨_, rfl⟩ | exact Or.inr ⟨_, rfl⟩) ?_
  intro pR eR sR mR aR bR tR cR AR ls QR hxR hbR hmlR hts hown hlk hnm hA hK hI hl hret
  have hl : lv_has ls 1 [(0, .ref o)] := hl
  refine r_new (fs := [.null, .null, .null, .null, .null, .int 0, .int 0]) hxR hbR hts hown hA hK hI okX14 (ci := 13) rfl q1034 q1035 q115 (by decide +kernel) (Nat.le_of_ble_eq_true rfl) (Nat.le_of_ble_eq_true rfl) dX13_wrong_0 (fun q_0 H hI => ?_)
  have hI : wI E AR sR H _ (rdO E o tq sz tn ra fm wd nu ++ ([(q_0, .inr (13, [.null, .null, .null, .null, .null, .int 0, .int 0]))])) := hI
  refine lv_dup hxR hbR dX13_wrong_3 rfl ?_
  refine lv_aload_n hxR hbR dX13_wrong_4 rfl (lv_at hl 0 rfl) ?_
  refine r_get hxR hbR hts hown hK hI okX13 (ci := 12) rfl 0 (he_l rfl) 4 (by decide) q809 rfl (v := .int (nI fm)) rfl dX13_wrong_5 ?_
  have hI : wI E AR sR _ _ ([(q_0, .inr (13, [.null, .null, .null, .null, .null, .int 0, .int 0]))] ++ (rdO E o tq sz tn ra fm wd nu)) := wI_pick ([rdO E o tq sz tn ra fm wd nu, [(q_0, .inr (13, [.null, .null, .null, .null, .null, .int 0, .int 0]))]]) [1, 0] 2 rfl (by decide) hI
  refine kIV (n := 1) (As := [.int (nI fm)]) (rest := [.ref q_0]) (fun w => w ++ (rdO E o tq sz tn ra fm wd nu)) hxR hbR hmlR hts hown hK hA hl.1 (isCtx.suf _) hI (c14_init l E q_0 (nI fm)) q1045 q115 q1043 q1044 rfl (by decide +kernel) rfl (Nat.le_of_ble_eq_true rfl) (Nat.le_of_ble_eq_true rfl) ⟨Nat.le_of_ble_eq_true rfl, Nat.le_of_ble_eq_true rfl⟩ (Nat.le_of_ble_eq_true rfl) dX13_wrong_8 (fun u H locs hp hI hz => ?_)
  have hI : wI E AR sR H locs ([(q_0, .inr (13, [.null, .null, .null, .null, .null, .int 0, .int (nI fm)]))] ++ (rdO E o tq sz tn ra fm wd nu)) := hI
  have hI : wI E AR sR _ _ (rdO E o tq sz tn ra fm wd nu ++ ([(q_0, .inr (13, [.null, .null, .null, .null, .null, .int 0, .int (nI fm)]))])) := wI_pick ([[(q_0, .inr (13, [.null, .null, .null, .null, .null, .int 0, .int (nI fm)]))], rdO E o tq sz tn ra fm wd nu]) [1, 0] 2 rfl (by decide) hI
  exact hret () q_0 _ _ _ _ _ _ dX13_wrong_11 hI (by show True; trivial) (Nat.le_of_ble_eq_true rfl) (Nat.le_of_ble_eq_true rfl)

theorem c13_next (l : Launch) (E : En) (o : Nat) (tq : Nat) (tn : Nat) (fm : Nat) (wd : Option Nat) (nu : Int32) (fT : Nat → Int32)  (b : Nat → Nat) (sz a : Nat) (htp : tpOk fT b sz) (hsz : sz ≤ 250) (ha : a ≤ sz) : CtV l E yX13_next cX13_next 2 7 (4 * (1 + (nx b sz a - a))) (1024 * (1 + (nx b sz a - a))) [.ref o] (rdO E o tq sz tn a fm wd nu ++ (tpW E tq fT ++ (([] : va_W)))) (fun (u : WD) => wOk b sz a u) (fun (u : WD) => rdO E o tq sz tn (atC b sz a) (fr b sz a) (wdR E b sz a u) (nuC b sz a) ++ (tpW E tq fT ++ (wdW E b sz a u))) := by
  refine CtV.of (by decide +kernel) (Nat.le_of_ble_eq_true rfl) ?_
  intro pR eR sR mR aR bR tR cR AR ls QR hxR hbR hmlR hts hown hlk hnm hA hK hI hl hret
  have hl : lv_has ls 2 [(0, .ref o)] := hl
  have lp_0 : ∀ (fu : Nat) (x : Nat), (a ≤ x ∧ x ≤ sz) → (whl bSp b sz x = fr b sz a) → sz - x < fu → ∀ (H : Heap) (locs : List Loc), wI E AR sR H locs (rdO E o tq sz tn x fm wd nu ++ (tpW E tq fT ++ (([] : va_W)))) → ∀ ls : Array Slot, lv_has ls 2 [(0, .ref o)] → W pR l eR (rmF 7 (4 * (1 + (nx b sz a - a))) (1024 * (1 + (nx b sz a - a)))) sR mR aR bR tR cR H locs 0 0 QR (F0 mR 0 ls []) := by
    intro fu
    induction fu with
    | zero =>
      intro x hx hxf hfu
      exact absurd hfu (Nat.not_lt_zero _)
    | succ fu ih_0 =>
      intro x hx hxf hfu H locs hI ls hl
      refine lv_aload_n hxR hbR dX13_next_0 rfl (lv_at hl 0 rfl) ?_
      refine lv_bipush (v := 32) hxR hbR dX13_next_1 (by decide) ?_
      refine lv_bipush (v := 32) hxR hbR dX13_next_3 (by decide) ?_
      have hI := wI_w app2 hI
      refine kVI (n := 2) (As := [.int 32, .int 32]) (rest := []) (fun w => w ++ (([] : va_W))) hxR hbR hmlR hts hown hK hA hl.1 (isCtx.suf _) hI (c13_isIn l E o tq tn x fm wd nu fT b sz 32 32 (by first | omega | with_reducible assumption) (by first | omega | with_reducible assumption) (by first | omega | with_reducible assumption) (by first | omega | with_reducible assumption) (by first | omega | with_reducible assumption)) (lw_V q835 q837 qs9 q107 q838) ⟨rfl, by decide +kernel⟩ 0 12 rfl rfl (he_l rfl) rfl (Nat.le_of_ble_eq_true rfl) (Nat.le_of_ble_eq_true rfl) ⟨by omega, by omega⟩ (Nat.le_of_ble_eq_true rfl) dX13_next_5 (fun r_5 u H locs hp hI hz => ?_)
      have hI := wI_w app2.symm hI
      have hI : wI E AR sR H locs (rdO E o tq sz tn x fm wd nu ++ (tpW E tq fT ++ (([] : va_W)))) := hI
      have hp : r_5 = b2i (decide (x < sz ∧ 32 ≤ b x ∧ b x ≤ 32)) := hp
      have hr_5 := hp
      rcases b2i_cases hr_5 with ⟨c_5, rfl⟩ | ⟨c_5, rfl⟩
      · skip
        have c_5 : x < sz ∧ 32 ≤ b x ∧ b x ≤ 32 := of_decide_eq_true c_5
        refine lv_if_eq (tgt := 24) hxR hbR dX13_next_8 (by decide) (fun c => absurd c (by decide)) (fun _ => ?_)
        refine lv_aload_n hxR hbR dX13_next_11 rfl (lv_at hl 0 rfl) ?_
        refine lv_dup hxR hbR dX13_next_12 rfl ?_
        refine r_get hxR hbR hts hown hK hI okX13 (ci := 12) rfl 0 (he_l rfl) 3 (by decide) q808 rfl (v := .int (nI x)) rfl dX13_next_13 ?_
        refine lv_iconst (v := 1) hxR hbR dX13_next_16 (by decide) ?_
        refine lv_iadd hxR hbR dX13_next_17 ?_
        refine lv_as (y := nI (x + 1)) (nI_add x 1) ?_
        refine r_put (v := .int (nI (x + 1))) (ws1 := rdO E o tq sz tn (x + 1) fm wd nu ++ (tpW E tq fT ++ (([] : va_W)))) hxR hbR hts hown hK hI okX13 (ci := 12) rfl 0 (he_l rfl) 3 (by decide) q808 rfl rfl rfl rfl (Nat.le_of_ble_eq_true rfl) (hw_l (Nat.le_of_ble_eq_true rfl) rfl) dX13_next_18 (fun H locs hI => ?_)
        refine lv_goto (tgt := 0) hxR hbR dX13_next_21 (by decide) ?_
        exact ih_0 (x + 1) ⟨by omega, by omega⟩ ((whl_y c_5.1 (show bSp (b x) = true from decide_eq_true (show b x = 32 by omega))).trans hxf) (by omega) _ _ hI _ (lv_sub hl [0] rfl)
      · skip
        have c_5 : ¬ (x < sz ∧ 32 ≤ b x ∧ b x ≤ 32) := of_decide_eq_false c_5
        refine lv_if_eq (tgt := 24) hxR hbR dX13_next_8 (by decide) (fun _ => ?_) (fun c => absurd c (by decide))
        have hfr : fr b sz a = x := by rw [← hxf]; exact whl_n (fun z => c_5 ⟨z.1, by have h9 : b x = 32 := of_decide_eq_true z.2; omega, by have h9 : b x = 32 := of_decide_eq_true z.2; omega⟩)
        have hI := wI_w (ws' := rdO E o tq sz tn x fm wd nu ++ (tpW E tq fT)) (by rw [List.append_nil]) hI
        refine lv_aload_n hxR hbR dX13_next_24 rfl (lv_at hl 0 rfl) ?_
        refine lv_aload_n hxR hbR dX13_next_25 rfl (lv_at hl 0 rfl) ?_
        refine r_get hxR hbR hts hown hK hI okX13 (ci := 12) rfl 0 (he_l rfl) 3 (by decide) q808 rfl (v := .int (nI x)) rfl dX13_next_26 ?_
        refine r_put (v := .int (nI x)) (ws1 := rdO E o tq sz tn x x wd nu ++ (tpW E tq fT)) hxR hbR hts hown hK hI okX13 (ci := 12) rfl 0 (he_l rfl) 4 (by decide) q809 rfl rfl rfl rfl (Nat.le_of_ble_eq_true rfl) (hw_l (Nat.le_of_ble_eq_true rfl) rfl) dX13_next_29 (fun H locs hI => ?_)
        refine lv_aload_n hxR hbR dX13_next_32 rfl (lv_at hl 0 rfl) ?_
        refine lv_null hxR hbR dX13_next_33 ?_
        refine r_put (v := .null) (ws1 := rdO E o tq sz tn x x none nu ++ (tpW E tq fT)) hxR hbR hts hown hK hI okX13 (ci := 12) rfl 0 (he_l rfl) 5 (by decide) q810 rfl rfl rfl rfl (Nat.le_of_ble_eq_true rfl) (hw_l (Nat.le_of_ble_eq_true rfl) rfl) dX13_next_34 (fun H locs hI => ?_)
        refine lv_aload_n hxR hbR dX13_next_37 rfl (lv_at hl 0 rfl) ?_
        refine lv_iconst (v := (-1)) hxR hbR dX13_next_38 (by decide) ?_
        refine r_put (v := .int (-1)) (ws1 := rdO E o tq sz tn x x none (-1) ++ (tpW E tq fT)) hxR hbR hts hown hK hI okX13 (ci := 12) rfl 0 (he_l rfl) 6 (by decide) q811 rfl rfl rfl rfl (Nat.le_of_ble_eq_true rfl) (hw_l (Nat.le_of_ble_eq_true rfl) rfl) dX13_next_39 (fun H locs hI => ?_)
        refine lv_aload_n hxR hbR dX13_next_42 rfl (lv_at hl 0 rfl) ?_
        refine lv_bipush (v := 97) hxR hbR dX13_next_43 (by decide) ?_
        refine lv_bipush (v := 122) hxR hbR dX13_next_45 (by decide) ?_
        refine kVI (n := 2) (As := [.int 97, .int 122]) (rest := []) (fun w => w) hxR hbR hmlR hts hown hK hA hl.1 isCtx.id hI (c13_isIn l E o tq tn x x none (-1) fT b sz 97 122 (by first | omega | with_reducible assumption) (by first | omega | with_reducible assumption) (by first | omega | with_reducible assumption) (by first | omega | with_reducible assumption) (by first | omega | with_reducible assumption)) (lw_V q835 q837 qs9 q107 q838) ⟨rfl, by decide +kernel⟩ 0 12 rfl rfl (he_l rfl) rfl (Nat.le_of_ble_eq_true rfl) (Nat.le_of_ble_eq_true rfl) ⟨by omega, by omega⟩ (Nat.le_of_ble_eq_true rfl) dX13_next_47 (fun r_47 u H locs hp hI hz => ?_)
        have hI : wI E AR sR H locs (rdO E o tq sz tn x x none (-1) ++ (tpW E tq fT)) := hI
        have hp : r_47 = b2i (decide (x < sz ∧ 97 ≤ b x ∧ b x ≤ 122)) := hp
        have hr_47 := hp
        rcases b2i_cases hr_47 with ⟨c_47, rfl⟩ | ⟨c_47, rfl⟩
        · skip
          have c_47 : x < sz ∧ 97 ≤ b x ∧ b x ≤ 122 := of_decide_eq_true c_47
          refine lv_if_eq (tgt := 111) hxR hbR dX13_next_50 (by decide) (fun c => absurd c (by decide)) (fun _ => ?_)
          have hne : ¬ fr b sz a = sz := by rw [hfr]; omega
          have hbl : bLet (b (fr b sz a)) = true := by rw [hfr]; exact decide_eq_true ⟨c_47.2.1, c_47.2.2⟩
          have hnx := nx_1 hne hbl
          have hkd := kd_1 hne hbl
          rw [hfr] at hnx
          refine r_new (fs := [.null, .int 0, .int 0, .int 0]) hxR hbR hts hown hA hK hI okJ13 (ci := 16) rfl q839 q840 q109 (by decide +kernel) (by show 0 + 1 ≤ (4 * (1 + (nx b sz a - a))); omega) (by show 0 + 4 ≤ (1024 * (1 + (nx b sz a - a))); omega) dX13_next_53 (fun q_53 H hI => ?_)
          have hI := wI_w app2.symm hI
          have hI : wI E AR sR _ _ (rdO E o tq sz tn x x none (-1) ++ (tpW E tq fT ++ ([(q_53, .inr (16, [.null, .int 0, .int 0, .int 0]))]))) := hI
          refine lv_dup hxR hbR dX13_next_56 rfl ?_
          have hI := wI_w app2 hI
          refine kIV (n := 0) (As := []) (rest := [.ref q_53]) (fun w => (rdO E o tq sz tn x x none (-1) ++ (tpW E tq fT)) ++ w) hxR hbR hmlR hts hown hK hA hl.1 (isCtx.pre _) hI (j13_init l E q_53) q843 q109 q841 q842 rfl (by decide +kernel) rfl (Nat.le_of_ble_eq_true rfl) (Nat.le_of_ble_eq_true rfl) ⟨by omega, by omega⟩ (Nat.le_of_ble_eq_true rfl) dX13_next_57 (fun vb_57 H locs hp hI hz => ?_)
          have hI := wI_w app2.symm hI
          have hI : wI E AR sR _ _ (rdO E o tq sz tn x x none (-1) ++ (tpW E tq fT ++ (sbW E q_53 vb_57 16 0 (fun _ => 0)))) := hI
          refine lv_astore_n (lv' := [(1, .ref q_53), (0, .ref o)]) hxR hbR dX13_next_60 rfl hl (by decide) rfl (fun ls hl => ?_)
          have lp_61 : ∀ (fu : Nat) (y : Nat) (v9 : Nat) (m9 : Nat) (k9 : Nat) (f9 : Nat → Int32) (cl : Nat) (sl : Nat), (x ≤ y ∧ y ≤ sz) → (whl bLet b sz y = nx b sz a) → (k9 = y - x) → (k9 ≤ m9 ∧ m9 ≤ 700) → (∀ j, j < k9 → f9 j = nI (b (x + j))) → (fitB f9) → (cl ≤ 2 + k9) → (sl ≤ 20 + 1000 * k9) → sz - y < fu → ∀ (H : Heap) (locs : List Loc), wI E AR sR H locs (rdO E o tq sz tn y x none (-1) ++ (tpW E tq fT ++ (sbW E q_53 v9 m9 k9 f9))) → ∀ ls : Array Slot, lv_has ls 2 [(0, .ref o), (1, .ref q_53)] → W pR l eR (rmF 7 (4 * (1 + (nx b sz a - a))) (1024 * (1 + (nx b sz a - a)))) sR mR aR bR tR cR H locs cl sl QR (F0 mR 61 ls []) := by
            intro fu
            induction fu with
            | zero =>
              intro y v9 m9 k9 f9 cl sl hy hyl hkk hm9 hf9 hfit hcl hsl hfu
              exact absurd hfu (Nat.not_lt_zero _)
            | succ fu ih_61 =>
              intro y v9 m9 k9 f9 cl sl hy hyl hkk hm9 hf9 hfit hcl hsl hfu H locs hI ls hl
              have hyn : y ≤ nx b sz a := by rw [← hyl]; exact whl_ge
              refine lv_aload_n hxR hbR dX13_next_61 rfl (lv_at hl 0 rfl) ?_
              refine lv_bipush (v := 97) hxR hbR dX13_next_62 (by decide) ?_
              refine lv_bipush (v := 122) hxR hbR dX13_next_64 (by decide) ?_
              have hI := wI_w app2 hI
              refine kVI (n := 2) (As := [.int 97, .int 122]) (rest := []) (fun w => w ++ (sbW E q_53 v9 m9 k9 f9)) hxR hbR hmlR hts hown hK hA hl.1 (isCtx.suf _) hI (c13_isIn l E o tq tn y x none (-1) fT b sz 97 122 (by first | omega | with_reducible assumption) (by first | omega | with_reducible assumption) (by first | omega | with_reducible assumption) (by first | omega | with_reducible assumption) (by first | omega | with_reducible assumption)) (lw_V q835 q837 qs9 q107 q838) ⟨rfl, by decide +kernel⟩ 0 12 rfl rfl (he_l rfl) rfl (Nat.le_of_ble_eq_true rfl) (Nat.le_of_ble_eq_true rfl) ⟨by omega, by omega⟩ (Nat.le_of_ble_eq_true rfl) dX13_next_66 (fun r_66 u H locs hp hI hz => ?_)
              have hI := wI_w app2.symm hI
              have hI : wI E AR sR H locs (rdO E o tq sz tn y x none (-1) ++ (tpW E tq fT ++ (sbW E q_53 v9 m9 k9 f9))) := hI
              have hp : r_66 = b2i (decide (y < sz ∧ 97 ≤ b y ∧ b y ≤ 122)) := hp
              have hr_66 := hp
              rcases b2i_cases hr_66 with ⟨c_66, rfl⟩ | ⟨c_66, rfl⟩
              · skip
                have c_66 : y < sz ∧ 97 ≤ b y ∧ b y ≤ 122 := of_decide_eq_true c_66
                refine lv_if_eq (tgt := 100) hxR hbR dX13_next_69 (by decide) (fun c => absurd c (by decide)) (fun _ => ?_)
                refine lv_aload_n hxR hbR dX13_next_72 rfl (lv_at hl 1 rfl) ?_
                refine lv_aload_n hxR hbR dX13_next_73 rfl (lv_at hl 0 rfl) ?_
                refine r_get hxR hbR hts hown hK hI okX13 (ci := 12) rfl 0 (he_l rfl) 0 (by decide) q804 rfl (v := .ref tq) rfl dX13_next_74 ?_
                refine lv_aload_n hxR hbR dX13_next_77 rfl (lv_at hl 0 rfl) ?_
                refine r_get hxR hbR hts hown hK hI okX13 (ci := 12) rfl 0 (he_l rfl) 3 (by decide) q808 rfl (v := .int (nI y)) rfl dX13_next_78 ?_
                refine r_iald hxR hbR hK hI (1 + 0) (n := 250) (J := y) (f := fT) (v := nI (b y)) (he_r (Nat.le_of_ble_eq_true rfl) (Nat.le_of_ble_eq_true rfl) (he_l rfl)) (by omega) (by decide) (htp _ c_66.1).1 dX13_next_81 ?_
                have hb9 := (htp _ c_66.1).2
                have hyn2 : y + 1 ≤ nx b sz a := by rw [← hyl, ← whl_y c_66.1 (show bLet (b y) = true from decide_eq_true ⟨c_66.2.1, c_66.2.2⟩)]; exact whl_ge
                refine lv_i2c (v := ((nI (b y)).toUInt32 % 65536).toInt32) hxR hbR dX13_next_82 rfl ?_
                refine lv_as (y := nI (b y)) (i2c_nat (by omega)) ?_
                have hI := wI_w app2 hI
                refine kVT (n := 1) (As := [.int (nI (b y))]) (rest := []) (fun w => (rdO E o tq sz tn y x none (-1) ++ (tpW E tq fT)) ++ w) hxR hbR hmlR hts hown hK hA hl.1 (isCtx.pre _) hI (c13_append l E q_53 v9 m9 k9 f9 (b y) (by omega) ⟨by omega, by omega⟩ (by omega) hfit) (lw_V q875 q876 q877 q109 q878) ⟨rfl, by decide +kernel⟩ 0 16 rfl rfl sbW_o rfl (Nat.le_of_ble_eq_true rfl) (Nat.le_of_ble_eq_true rfl) ⟨by omega, by omega⟩ (Nat.le_of_ble_eq_true rfl) dX13_next_83 (fun u H locs hp hI hz => ?_)
                obtain ⟨v2_83, m2_83, f2_83⟩ := u
                have hI := wI_w app2.symm hI
                have hI : wI E AR sR H locs (rdO E o tq sz tn y x none (-1) ++ (tpW E tq fT ++ (sbW E q_53 v2_83 m2_83 (k9 + 1) f2_83))) := hI
                have hp : (k9 + 1 ≤ m2_83 ∧ m2_83 ≤ 700) ∧ (∀ j, j < k9 → f2_83 j = f9 j) ∧ f2_83 k9 = nI (b y) ∧ fitB f2_83 := hp
                obtain ⟨h1_83, h2_83, h4_83, h3_83⟩ := hp
                refine lv_pop hxR hbR dX13_next_86 rfl ?_
                refine lv_aload_n hxR hbR dX13_next_87 rfl (lv_at hl 0 rfl) ?_
                refine lv_dup hxR hbR dX13_next_88 rfl ?_
                refine r_get hxR hbR hts hown hK hI okX13 (ci := 12) rfl 0 (he_l rfl) 3 (by decide) q808 rfl (v := .int (nI y)) rfl dX13_next_89 ?_
                refine lv_iconst (v := 1) hxR hbR dX13_next_92 (by decide) ?_
                refine lv_iadd hxR hbR dX13_next_93 ?_
                refine lv_as (y := nI (y + 1)) (nI_add y 1) ?_
                refine r_put (v := .int (nI (y + 1))) (ws1 := rdO E o tq sz tn (y + 1) x none (-1) ++ (tpW E tq fT ++ (sbW E q_53 v2_83 m2_83 (k9 + 1) f2_83))) hxR hbR hts hown hK hI okX13 (ci := 12) rfl 0 (he_l rfl) 3 (by decide) q808 rfl rfl rfl rfl (Nat.le_of_ble_eq_true rfl) (hw_l (Nat.le_of_ble_eq_true rfl) rfl) dX13_next_94 (fun H locs hI => ?_)
                refine lv_goto (tgt := 61) hxR hbR dX13_next_97 (by decide) ?_
                exact ih_61 (y + 1) v2_83 m2_83 (k9 + 1) f2_83 (cl + 1) (sl + 1000) ⟨by omega, by omega⟩ ((whl_y c_66.1 (show bLet (b y) = true from decide_eq_true ⟨c_66.2.1, c_66.2.2⟩)).trans hyl) (by first | omega | with_reducible assumption) ⟨by omega, by omega⟩ (fun j hj => by rcases Nat.lt_succ_iff_lt_or_eq.mp hj with h | h; exact (h2_83 j h).trans (hf9 j h); (rw [h, h4_83, show x + k9 = y by omega])) h3_83 (by omega) (by omega) (by omega) _ _ hI _ (lv_sub hl [0, 1] rfl)
              · skip
                have c_66 : ¬ (y < sz ∧ 97 ≤ b y ∧ b y ≤ 122) := of_decide_eq_false c_66
                refine lv_if_eq (tgt := 100) hxR hbR dX13_next_69 (by decide) (fun _ => ?_) (fun c => absurd c (by decide))
                have hny : nx b sz a = y := by rw [← hyl]; exact whl_n (fun z => c_66 ⟨z.1, (show 97 ≤ b y ∧ b y ≤ 122 from of_decide_eq_true z.2)⟩)
                refine lv_aload_n hxR hbR dX13_next_100 rfl (lv_at hl 0 rfl) ?_
                refine lv_aload_n hxR hbR dX13_next_101 rfl (lv_at hl 1 rfl) ?_
                have hI := wI_w app2 hI
                refine kVR (n := 0) (As := []) (rest := [.ref o]) (fun w => (rdO E o tq sz tn y x none (-1) ++ (tpW E tq fT)) ++ w) hxR hbR hmlR hts hown hK hA hl.1 (isCtx.pre _) hI (c13_toString l E q_53 v9 m9 k9 f9 ⟨by omega, by omega⟩ hfit) (lw_V q966 q967 q968 q109 q969) ⟨rfl, by decide +kernel⟩ 0 16 rfl rfl sbW_o rfl (Nat.le_of_ble_eq_true rfl) (Nat.le_of_ble_eq_true rfl) ⟨by omega, by omega⟩ (Nat.le_of_ble_eq_true rfl) dX13_next_102 (fun u r_102 H locs hp hI hz => ?_)
                obtain ⟨v2_102, f2_102⟩ := u
                have hp : (∀ j, j < k9 → f2_102 j = f9 j) ∧ fitB f2_102 := hp
                obtain ⟨h2_102, h3_102⟩ := hp
                have hI := wI_w app2.symm hI
                have hI : wI E AR sR _ _ (rdO E o tq sz tn y x none (-1) ++ (tpW E tq fT ++ (strH E r_102 v2_102 k9 f2_102 0 0 ++ (sbW E q_53 v9 m9 k9 f9)))) := hI
                have hI : wI E AR sR _ _ (sbW E q_53 v9 m9 k9 f9 ++ (rdO E o tq sz tn y x none (-1) ++ (tpW E tq fT ++ (strH E r_102 v2_102 k9 f2_102 0 0)))) := wI_pick ([rdO E o tq sz tn y x none (-1), tpW E tq fT, strH E r_102 v2_102 k9 f2_102 0 0, sbW E q_53 v9 m9 k9 f9]) [3, 0, 1, 2] 4 rfl (by decide) hI
                have hI := wI_dropL hI
                have hI : wI E AR sR _ _ (rdO E o tq sz tn y x none (-1) ++ (tpW E tq fT ++ (strH E r_102 v2_102 k9 f2_102 0 0))) := hI
                refine r_put (v := .ref r_102) (ws1 := rdO E o tq sz tn y x (some (r_102)) (-1) ++ (tpW E tq fT ++ (strH E r_102 v2_102 k9 f2_102 0 0))) hxR hbR hts hown hK hI okX13 (ci := 12) rfl 0 (he_l rfl) 5 (by decide) q810 rfl rfl rfl rfl (Nat.le_of_ble_eq_true rfl) (hw_l (Nat.le_of_ble_eq_true rfl) rfl) dX13_next_105 (fun H locs hI => ?_)
                refine lv_goto (tgt := 224) hxR hbR dX13_next_108 (by decide) ?_
                have e1 : atC b sz a = y := by unfold atC; rw [hkd, if_neg (by decide)]; exact hny
                have e3 : wdR E b sz a (r_102, v2_102, f2_102) = some r_102 := if_pos hkd
                have e4 : nuC b sz a = -1 := by unfold nuC; rw [if_neg (by rw [hkd]; decide)]
                have e5 : wdW E b sz a (r_102, v2_102, f2_102) = strH E r_102 v2_102 k9 f2_102 0 0 := by unfold wdW; rw [if_pos hkd, hny, hfr, ← hkk]
                have hI := wI_w (ws' := rdO E o tq sz tn (atC b sz a) (fr b sz a) (wdR E b sz a (r_102, v2_102, f2_102)) (nuC b sz a) ++ (tpW E tq fT ++ (wdW E b sz a (r_102, v2_102, f2_102)))) (by rw [e1, e3, e4, e5, hfr]) hI
                exact hret (r_102, v2_102, f2_102) _ _ _ _ _ _ dX13_next_224 hI (by show wOk b sz a (r_102, v2_102, f2_102); intro _ j hj; rw [hny, hfr] at hj; show f2_102 j = nI (b (fr b sz a + j)); rw [h2_102 j (by omega), hf9 j (by omega), hfr]) (by omega) (by omega)
          exact lp_61 _ x vb_57 16 0 (fun _ => 0) (0 + 1 + 1) (0 + 4 + 16) ⟨Nat.le_refl _, by omega⟩ hnx.symm (Nat.sub_self x).symm ⟨by omega, by omega⟩ (fun j hj => absurd hj (Nat.not_lt_zero _)) (fun _ => rfl) (by omega) (by omega) (Nat.lt_succ_self _) _ _ hI _ (lv_sub hl [1, 0] rfl)
        · skip
          have c_47 : ¬ (x < sz ∧ 97 ≤ b x ∧ b x ≤ 122) := of_decide_eq_false c_47
          refine lv_if_eq (tgt := 111) hxR hbR dX13_next_50 (by decide) (fun _ => ?_) (fun c => absurd c (by decide))
          refine lv_aload_n hxR hbR dX13_next_111 rfl (lv_at hl 0 rfl) ?_
          refine lv_bipush (v := 48) hxR hbR dX13_next_112 (by decide) ?_
          refine lv_bipush (v := 57) hxR hbR dX13_next_114 (by decide) ?_
          refine kVI (n := 2) (As := [.int 48, .int 57]) (rest := []) (fun w => w) hxR hbR hmlR hts hown hK hA hl.1 isCtx.id hI (c13_isIn l E o tq tn x x none (-1) fT b sz 48 57 (by first | omega | with_reducible assumption) (by first | omega | with_reducible assumption) (by first | omega | with_reducible assumption) (by first | omega | with_reducible assumption) (by first | omega | with_reducible assumption)) (lw_V q835 q837 qs9 q107 q838) ⟨rfl, by decide +kernel⟩ 0 12 rfl rfl (he_l rfl) rfl (Nat.le_of_ble_eq_true rfl) (Nat.le_of_ble_eq_true rfl) ⟨by omega, by omega⟩ (Nat.le_of_ble_eq_true rfl) dX13_next_116 (fun r_116 u H locs hp hI hz => ?_)
          have hI : wI E AR sR H locs (rdO E o tq sz tn x x none (-1) ++ (tpW E tq fT)) := hI
          have hp : r_116 = b2i (decide (x < sz ∧ 48 ≤ b x ∧ b x ≤ 57)) := hp
          have hr_116 := hp
          rcases b2i_cases hr_116 with ⟨c_116, rfl⟩ | ⟨c_116, rfl⟩
          · skip
            have c_116 : x < sz ∧ 48 ≤ b x ∧ b x ≤ 57 := of_decide_eq_true c_116
            refine lv_if_eq (tgt := 197) hxR hbR dX13_next_119 (by decide) (fun c => absurd c (by decide)) (fun _ => ?_)
            have hne : ¬ fr b sz a = sz := by rw [hfr]; omega
            have hnl : ¬ bLet (b (fr b sz a)) = true := by rw [hfr]; intro z; have h9 : 97 ≤ b x ∧ b x ≤ 122 := of_decide_eq_true z; exact c_47 ⟨c_116.1, h9⟩
            have hbd : bDig (b (fr b sz a)) = true := by rw [hfr]; exact decide_eq_true ⟨c_116.2.1, c_116.2.2⟩
            have hnx := nx_2 hne hnl hbd
            have hkd := kd_2 hne hnl hbd
            rw [hfr] at hnx
            refine lv_iconst (v := 0) hxR hbR dX13_next_122 (by decide) ?_
            refine lv_istore_n (lv' := [(1, .int 0), (0, .ref o)]) hxR hbR dX13_next_123 rfl hl (by decide) rfl (fun ls hl => ?_)
            have lp_124 : ∀ (fu : Nat) (y : Nat) (v : Nat), (x ≤ y ∧ y ≤ sz) → (whl bDig b sz y = nx b sz a) → ((y - x ≤ 2 → v = fgN b x (y - x)) ∧ v ≤ 100 ∧ (y - x ≤ 1 → v ≤ 9) ∧ (y - x ≤ 0 → v = 0)) → sz - y < fu → ∀ (H : Heap) (locs : List Loc), wI E AR sR H locs (rdO E o tq sz tn y x none (-1) ++ (tpW E tq fT)) → ∀ ls : Array Slot, lv_has ls 2 [(0, .ref o), (1, .int (nI v))] → W pR l eR (rmF 7 (4 * (1 + (nx b sz a - a))) (1024 * (1 + (nx b sz a - a)))) sR mR aR bR tR cR H locs 0 0 QR (F0 mR 124 ls []) := by
              intro fu
              induction fu with
              | zero =>
                intro y v hy hyl hv hfu
                exact absurd hfu (Nat.not_lt_zero _)
              | succ fu ih_124 =>
                intro y v hy hyl hv hfu H locs hI ls hl
                have hv1 := hv.2.1
                refine lv_aload_n hxR hbR dX13_next_124 rfl (lv_at hl 0 rfl) ?_
                refine lv_bipush (v := 48) hxR hbR dX13_next_125 (by decide) ?_
                refine lv_bipush (v := 57) hxR hbR dX13_next_127 (by decide) ?_
                refine kVI (n := 2) (As := [.int 48, .int 57]) (rest := []) (fun w => w) hxR hbR hmlR hts hown hK hA hl.1 isCtx.id hI (c13_isIn l E o tq tn y x none (-1) fT b sz 48 57 (by first | omega | with_reducible assumption) (by first | omega | with_reducible assumption) (by first | omega | with_reducible assumption) (by first | omega | with_reducible assumption) (by first | omega | with_reducible assumption)) (lw_V q835 q837 qs9 q107 q838) ⟨rfl, by decide +kernel⟩ 0 12 rfl rfl (he_l rfl) rfl (Nat.le_of_ble_eq_true rfl) (Nat.le_of_ble_eq_true rfl) ⟨by omega, by omega⟩ (Nat.le_of_ble_eq_true rfl) dX13_next_129 (fun r_129 u H locs hp hI hz => ?_)
                have hI : wI E AR sR H locs (rdO E o tq sz tn y x none (-1) ++ (tpW E tq fT)) := hI
                have hp : r_129 = b2i (decide (y < sz ∧ 48 ≤ b y ∧ b y ≤ 57)) := hp
                have hr_129 := hp
                rcases b2i_cases hr_129 with ⟨c_129, rfl⟩ | ⟨c_129, rfl⟩
                · skip
                  have c_129 : y < sz ∧ 48 ≤ b y ∧ b y ≤ 57 := of_decide_eq_true c_129
                  refine lv_if_eq (tgt := 171) hxR hbR dX13_next_132 (by decide) (fun c => absurd c (by decide)) (fun _ => ?_)
                  refine lv_bipush (v := 100) hxR hbR dX13_next_135 (by decide) ?_
                  refine lv_bipush (v := 10) hxR hbR dX13_next_137 (by decide) ?_
                  refine lv_iload_n hxR hbR dX13_next_139 rfl (lv_at hl 1 rfl) ?_
                  refine lv_imul hxR hbR dX13_next_140 ?_
                  refine lv_as (y := nI (10 * v)) (pk_mul 10 v) ?_
                  refine lv_aload_n hxR hbR dX13_next_141 rfl (lv_at hl 0 rfl) ?_
                  refine r_get hxR hbR hts hown hK hI okX13 (ci := 12) rfl 0 (he_l rfl) 0 (by decide) q804 rfl (v := .ref tq) rfl dX13_next_142 ?_
                  refine lv_aload_n hxR hbR dX13_next_145 rfl (lv_at hl 0 rfl) ?_
                  refine r_get hxR hbR hts hown hK hI okX13 (ci := 12) rfl 0 (he_l rfl) 3 (by decide) q808 rfl (v := .int (nI y)) rfl dX13_next_146 ?_
                  refine r_iald hxR hbR hK hI (1 + 0) (n := 250) (J := y) (f := fT) (v := nI (b y)) (he_r (Nat.le_of_ble_eq_true rfl) (Nat.le_of_ble_eq_true rfl) rfl) (by omega) (by decide) (htp _ c_129.1).1 dX13_next_149 ?_
                  have hb9 := (htp _ c_129.1).2
                  refine lv_iadd hxR hbR dX13_next_150 ?_
                  refine lv_as (y := nI ((10 * v) + (b y))) (nI_add (10 * v) (b y)) ?_
                  refine lv_bipush (v := 48) hxR hbR dX13_next_151 (by decide) ?_
                  refine lv_isub hxR hbR dX13_next_153 ?_
                  refine lv_as (y := nI (((10 * v) + (b y)) - 48)) (pk_sub (a := (10 * v) + (b y)) (b := 48) (by omega)) ?_
                  refine va_mmin hxR hbR (by rw [hmlR]; exact hl.1.symm) hown (hts _ q1024) (hts _ q910) (hts _ q106) (hts _ q911) (Nat.le_of_ble_eq_true rfl) (Nat.le_of_ble_eq_true rfl) (by omega) (by omega) dX13_next_154 ?_
                  refine lv_as (y := nI (min 100 (((10 * v) + (b y)) - 48))) (mn_n (by decide) (by omega)) ?_
                  refine lv_istore_n (lv' := [(1, .int (nI (min 100 (((10 * v) + (b y)) - 48)))), (0, .ref o)]) hxR hbR dX13_next_157 rfl hl (by decide) rfl (fun ls hl => ?_)
                  refine lv_aload_n hxR hbR dX13_next_158 rfl (lv_at hl 1 rfl) ?_
                  refine lv_dup hxR hbR dX13_next_159 rfl ?_
                  refine r_get hxR hbR hts hown hK hI okX13 (ci := 12) rfl 0 (he_l rfl) 3 (by decide) q808 rfl (v := .int (nI y)) rfl dX13_next_160 ?_
                  refine lv_iconst (v := 1) hxR hbR dX13_next_163 (by decide) ?_
                  refine lv_iadd hxR hbR dX13_next_164 ?_
                  refine lv_as (y := nI (y + 1)) (nI_add y 1) ?_
                  refine r_put (v := .int (nI (y + 1))) (ws1 := rdO E o tq sz tn (y + 1) x none (-1) ++ (tpW E tq fT)) hxR hbR hts hown hK hI okX13 (ci := 12) rfl 0 (he_l rfl) 3 (by decide) q808 rfl rfl rfl rfl (Nat.le_of_ble_eq_true rfl) (hw_l (Nat.le_of_ble_eq_true rfl) rfl) dX13_next_165 (fun H locs hI => ?_)
                  refine lv_goto (tgt := 124) hxR hbR dX13_next_168 (by decide) ?_
                  exact ih_124 (y + 1) (min 100 (((10 * v) + (b y)) - 48)) ⟨by omega, by omega⟩ ((whl_y c_129.1 (show bDig (b y) = true from decide_eq_true ⟨c_129.2.1, c_129.2.2⟩)).trans hyl) ⟨fun hh => by have h1 := fgN_s hy.1 (hv.1 (by omega)) (by omega); have h2 := hv.2.2.1 (by omega); rw [← h1]; omega, by omega, fun hh => by have h2 := hv.2.2.2 (by omega); omega, fun hh => by omega⟩ (by omega) _ _ hI _ (lv_sub hl [1, 0] rfl)
                · skip
                  have c_129 : ¬ (y < sz ∧ 48 ≤ b y ∧ b y ≤ 57) := of_decide_eq_false c_129
                  refine lv_if_eq (tgt := 171) hxR hbR dX13_next_132 (by decide) (fun _ => ?_) (fun c => absurd c (by decide))
                  have hny : nx b sz a = y := by rw [← hyl]; exact whl_n (fun z => c_129 ⟨z.1, (show 48 ≤ b y ∧ b y ≤ 57 from of_decide_eq_true z.2)⟩)
                  refine lv_aload_n hxR hbR dX13_next_171 rfl (lv_at hl 0 rfl) ?_
                  refine lv_aload_n hxR hbR dX13_next_172 rfl (lv_at hl 0 rfl) ?_
                  refine r_get hxR hbR hts hown hK hI okX13 (ci := 12) rfl 0 (he_l rfl) 3 (by decide) q808 rfl (v := .int (nI y)) rfl dX13_next_173 ?_
                  refine lv_aload_n hxR hbR dX13_next_176 rfl (lv_at hl 0 rfl) ?_
                  refine r_get hxR hbR hts hown hK hI okX13 (ci := 12) rfl 0 (he_l rfl) 4 (by decide) q809 rfl (v := .int (nI x)) rfl dX13_next_177 ?_
                  refine lv_isub hxR hbR dX13_next_180 ?_
                  refine lv_as (y := nI (y - x)) (pk_sub (a := y) (b := x) (by omega)) ?_
                  refine lv_iconst (v := 2) hxR hbR dX13_next_181 (by decide) ?_
                  refine lv_icmp_le (tgt := 190) hxR hbR dX13_next_182 (by decide) (fun c_182 => ?_) (fun c_182 => ?_)
                  · skip
                    have c_182 : (y - x) ≤ 2 := (n_le (a := (y - x)) (b := 2) (by omega) (by omega)).mp c_182
                    refine lv_iload_n hxR hbR dX13_next_190 rfl (lv_at hl 1 rfl) ?_
                    refine r_put (v := .int (nI v)) (ws1 := rdO E o tq sz tn y x none (nI v) ++ (tpW E tq fT)) hxR hbR hts hown hK hI okX13 (ci := 12) rfl 0 (he_l rfl) 6 (by decide) q811 rfl rfl rfl rfl (Nat.le_of_ble_eq_true rfl) (hw_l (Nat.le_of_ble_eq_true rfl) rfl) dX13_next_191 (fun H locs hI => ?_)
                    refine lv_goto (tgt := 224) hxR hbR dX13_next_194 (by decide) ?_
                    have e1 : atC b sz a = y := by unfold atC; rw [hkd, if_neg (by decide)]; exact hny
                    have e3 : wdR E b sz a (0, 0, fun _ => 0) = none := by unfold wdR; rw [if_neg (by rw [hkd]; decide), if_neg (by rw [hkd]; decide)]
                    have e5 : wdW E b sz a (0, 0, fun _ => 0) = [] := if_neg (by rw [hkd]; decide)
                    have e4 : nuC b sz a = nI v := by unfold nuC; rw [if_pos hkd, if_neg (by rw [hny, hfr]; omega), fg_2 hkd, hny, hfr, ← hv.1 (by omega)]
                    have hI := wI_w (ws' := rdO E o tq sz tn (atC b sz a) (fr b sz a) (wdR E b sz a (0, 0, fun _ => 0)) (nuC b sz a) ++ (tpW E tq fT ++ (wdW E b sz a (0, 0, fun _ => 0)))) (by rw [e1, e3, e4, e5, hfr, List.append_nil]) hI
                    exact hret (0, 0, fun _ => 0) _ _ _ _ _ _ dX13_next_224 hI (by show wOk b sz a (0, 0, fun _ => 0); intro h9; rw [hkd] at h9; exact absurd h9 (by decide)) (by omega) (by omega)
                  · skip
                    have c_182 : 2 < (y - x) := Nat.lt_of_not_le (fun zz => c_182 ((n_le (a := (y - x)) (b := 2) (by omega) (by omega)).mpr zz))
                    refine lv_bipush (v := 100) hxR hbR dX13_next_185 (by decide) ?_
                    refine lv_goto (tgt := 191) hxR hbR dX13_next_187 (by decide) ?_
                    refine r_put (v := .int 100) (ws1 := rdO E o tq sz tn y x none 100 ++ (tpW E tq fT)) hxR hbR hts hown hK hI okX13 (ci := 12) rfl 0 (he_l rfl) 6 (by decide) q811 rfl rfl rfl rfl (Nat.le_of_ble_eq_true rfl) (hw_l (Nat.le_of_ble_eq_true rfl) rfl) dX13_next_191 (fun H locs hI => ?_)
                    refine lv_goto (tgt := 224) hxR hbR dX13_next_194 (by decide) ?_
                    have e1 : atC b sz a = y := by unfold atC; rw [hkd, if_neg (by decide)]; exact hny
                    have e3 : wdR E b sz a (0, 0, fun _ => 0) = none := by unfold wdR; rw [if_neg (by rw [hkd]; decide), if_neg (by rw [hkd]; decide)]
                    have e5 : wdW E b sz a (0, 0, fun _ => 0) = [] := if_neg (by rw [hkd]; decide)
                    have e4 : nuC b sz a = 100 := by unfold nuC; rw [if_pos hkd, if_pos (by rw [hny, hfr]; omega)]
                    have hI := wI_w (ws' := rdO E o tq sz tn (atC b sz a) (fr b sz a) (wdR E b sz a (0, 0, fun _ => 0)) (nuC b sz a) ++ (tpW E tq fT ++ (wdW E b sz a (0, 0, fun _ => 0)))) (by rw [e1, e3, e4, e5, hfr, List.append_nil]) hI
                    exact hret (0, 0, fun _ => 0) _ _ _ _ _ _ dX13_next_224 hI (by show wOk b sz a (0, 0, fun _ => 0); intro h9; rw [hkd] at h9; exact absurd h9 (by decide)) (by omega) (by omega)
            exact lp_124 _ x 0 ⟨Nat.le_refl _, by omega⟩ hnx.symm ⟨fun _ => by rw [Nat.sub_self]; rfl, by omega, fun _ => by omega, fun _ => by omega⟩ (Nat.lt_succ_self _) _ _ hI _ (lv_sub hl [1, 0] rfl)
          · skip
            have c_116 : ¬ (x < sz ∧ 48 ≤ b x ∧ b x ≤ 57) := of_decide_eq_false c_116
            refine lv_if_eq (tgt := 197) hxR hbR dX13_next_119 (by decide) (fun _ => ?_) (fun c => absurd c (by decide))
            refine lv_aload_n hxR hbR dX13_next_197 rfl (lv_at hl 0 rfl) ?_
            refine lv_bipush (v := 59) hxR hbR dX13_next_198 (by decide) ?_
            refine lv_bipush (v := 59) hxR hbR dX13_next_200 (by decide) ?_
            refine kVI (n := 2) (As := [.int 59, .int 59]) (rest := []) (fun w => w) hxR hbR hmlR hts hown hK hA hl.1 isCtx.id hI (c13_isIn l E o tq tn x x none (-1) fT b sz 59 59 (by first | omega | with_reducible assumption) (by first | omega | with_reducible assumption) (by first | omega | with_reducible assumption) (by first | omega | with_reducible assumption) (by first | omega | with_reducible assumption)) (lw_V q835 q837 qs9 q107 q838) ⟨rfl, by decide +kernel⟩ 0 12 rfl rfl (he_l rfl) rfl (Nat.le_of_ble_eq_true rfl) (Nat.le_of_ble_eq_true rfl) ⟨by omega, by omega⟩ (Nat.le_of_ble_eq_true rfl) dX13_next_202 (fun r_202 u H locs hp hI hz => ?_)
            have hI : wI E AR sR H locs (rdO E o tq sz tn x x none (-1) ++ (tpW E tq fT)) := hI
            have hp : r_202 = b2i (decide (x < sz ∧ 59 ≤ b x ∧ b x ≤ 59)) := hp
            have hr_202 := hp
            rcases b2i_cases hr_202 with ⟨c_202, rfl⟩ | ⟨c_202, rfl⟩
            · skip
              have c_202 : x < sz ∧ 59 ≤ b x ∧ b x ≤ 59 := of_decide_eq_true c_202
              refine lv_if_eq (tgt := 224) hxR hbR dX13_next_205 (by decide) (fun c => absurd c (by decide)) (fun _ => ?_)
              refine lv_aload_n hxR hbR dX13_next_208 rfl (lv_at hl 0 rfl) ?_
              refine va_ldcS hxR hbR hown (hK.2.2.2.1 ("ThreeStrangers$Reader", 57, ";", 0) (by decide)) dX13_next_209 ?_
              refine r_put (v := .ref (E.1.2.1 0)) (ws1 := rdO E o tq sz tn x x (some (E.1.2.1 0)) (-1) ++ (tpW E tq fT)) hxR hbR hts hown hK hI okX13 (ci := 12) rfl 0 (he_l rfl) 5 (by decide) q810 rfl rfl rfl rfl (Nat.le_of_ble_eq_true rfl) (hw_l (Nat.le_of_ble_eq_true rfl) rfl) dX13_next_211 (fun H locs hI => ?_)
              refine lv_aload_n hxR hbR dX13_next_214 rfl (lv_at hl 0 rfl) ?_
              refine lv_dup hxR hbR dX13_next_215 rfl ?_
              refine r_get hxR hbR hts hown hK hI okX13 (ci := 12) rfl 0 (he_l rfl) 3 (by decide) q808 rfl (v := .int (nI x)) rfl dX13_next_216 ?_
              refine lv_iconst (v := 1) hxR hbR dX13_next_219 (by decide) ?_
              refine lv_iadd hxR hbR dX13_next_220 ?_
              refine lv_as (y := nI (x + 1)) (nI_add x 1) ?_
              refine r_put (v := .int (nI (x + 1))) (ws1 := rdO E o tq sz tn (x + 1) x (some (E.1.2.1 0)) (-1) ++ (tpW E tq fT)) hxR hbR hts hown hK hI okX13 (ci := 12) rfl 0 (he_l rfl) 3 (by decide) q808 rfl rfl rfl rfl (Nat.le_of_ble_eq_true rfl) (hw_l (Nat.le_of_ble_eq_true rfl) rfl) dX13_next_221 (fun H locs hI => ?_)
              have hnl : ¬ bLet (b (fr b sz a)) = true := by rw [hfr]; intro z; have h9 : 97 ≤ b x ∧ b x ≤ 122 := of_decide_eq_true z; exact c_47 ⟨c_202.1, h9⟩
              have hnd : ¬ bDig (b (fr b sz a)) = true := by rw [hfr]; intro z; have h9 : 48 ≤ b x ∧ b x ≤ 57 := of_decide_eq_true z; exact c_116 ⟨c_202.1, h9⟩
              have hne : ¬ fr b sz a = sz := by rw [hfr]; omega
              have h59 : b (fr b sz a) = 59 := by rw [hfr]; omega
              have hkd := kd_3 hne hnl hnd h59
              have e1 : atC b sz a = x + 1 := by unfold atC; rw [hkd, if_neg (by decide), nx_3 hne hnl hnd, hfr]
              have e3 : wdR E b sz a (0, 0, fun _ => 0) = some (E.1.2.1 0) := by unfold wdR; rw [if_neg (by rw [hkd]; decide), if_pos hkd]
              have e4 : nuC b sz a = -1 := by unfold nuC; rw [if_neg (by rw [hkd]; decide)]
              have e5 : wdW E b sz a (0, 0, fun _ => 0) = [] := if_neg (by rw [hkd]; decide)
              have hI := wI_w (ws' := rdO E o tq sz tn (atC b sz a) (fr b sz a) (wdR E b sz a (0, 0, fun _ => 0)) (nuC b sz a) ++ (tpW E tq fT ++ (wdW E b sz a (0, 0, fun _ => 0)))) (by rw [e1, e3, e4, e5, hfr, List.append_nil]) hI
              exact hret (0, 0, fun _ => 0) _ _ _ _ _ _ dX13_next_224 hI (by show wOk b sz a (0, 0, fun _ => 0); intro h9; rw [hkd] at h9; exact absurd h9 (by decide)) (by omega) (by omega)
            · skip
              have c_202 : ¬ (x < sz ∧ 59 ≤ b x ∧ b x ≤ 59) := of_decide_eq_false c_202
              refine lv_if_eq (tgt := 224) hxR hbR dX13_next_205 (by decide) (fun _ => ?_) (fun c => absurd c (by decide))
              have hk04 : (kd b sz a = 0 ∧ fr b sz a = sz) ∨ kd b sz a = 4 := by
                by_cases hxs : x = sz
                · exact Or.inl ⟨kd_0 (by rw [hfr]; exact hxs), by rw [hfr]; exact hxs⟩
                · have hxl : x < sz := by omega
                  have hnl : ¬ bLet (b (fr b sz a)) = true := by rw [hfr]; intro z; have h9 : 97 ≤ b x ∧ b x ≤ 122 := of_decide_eq_true z; exact c_47 ⟨hxl, h9⟩
                  have hnd : ¬ bDig (b (fr b sz a)) = true := by rw [hfr]; intro z; have h9 : 48 ≤ b x ∧ b x ≤ 57 := of_decide_eq_true z; exact c_116 ⟨hxl, h9⟩
                  exact Or.inr (kd_4 (by rw [hfr]; exact hxs) hnl hnd (by rw [hfr]; intro z; exact c_202 ⟨hxl, by omega, by omega⟩))
              have e1 : atC b sz a = x := by unfold atC; rcases hk04 with h | h; (rw [if_neg (by rw [h.1]; decide), nx_0 h.2]; exact hfr); (rw [if_pos h]; exact hfr)
              have e4 : nuC b sz a = -1 := by unfold nuC; rw [if_neg (by rcases hk04 with h | h; (rw [h.1]; decide); (rw [h]; decide))]
              have e3 : wdR E b sz a (0, 0, fun _ => 0) = none := by unfold wdR; rw [if_neg (by rcases hk04 with h | h; (rw [h.1]; decide); (rw [h]; decide)), if_neg (by rcases hk04 with h | h; (rw [h.1]; decide); (rw [h]; decide))]
              have e5 : wdW E b sz a (0, 0, fun _ => 0) = [] := if_neg (by rcases hk04 with h | h; (rw [h.1]; decide); (rw [h]; decide))
              have hI := wI_w (ws' := rdO E o tq sz tn (atC b sz a) (fr b sz a) (wdR E b sz a (0, 0, fun _ => 0)) (nuC b sz a) ++ (tpW E tq fT ++ (wdW E b sz a (0, 0, fun _ => 0)))) (by rw [e1, e3, e4, e5, hfr, List.append_nil]) hI
              exact hret (0, 0, fun _ => 0) _ _ _ _ _ _ dX13_next_224 hI (by show wOk b sz a (0, 0, fun _ => 0); intro h9; exact absurd h9 (by rcases hk04 with h | h; (rw [h.1]; decide); (rw [h]; decide))) (by omega) (by omega)
  exact lp_0 _ a ⟨Nat.le_refl _, ha⟩ rfl (Nat.lt_succ_self _) _ _ hI _ (lv_sub hl [0] rfl)
