/-- met's loop: some are told, at p another one -/
def metG (b : Nat → Nat) (sz n S p : Nat) : Except Nat (Nat × Nat) := if kd b sz p = 2 ∧ fg b sz p < n ∧ S.testBit (fg b sz p) = true then .error (fr b sz p) else match numE b sz p 0 ((n : Int) - 1) with
  | .error f => .error f
  | .ok (x, q) => metF b sz n (sz + 1 - q) (S ||| 2 ^ x) q
/-- what reading up to the result costs -/
def coE {α : Type} (b : Nat → Nat) (sz a : Nat) (r : Except Nat (α × Nat)) : Nat := match r with
  | .ok (_, p) => (p - a) + (nx b sz p - nx b sz a)
  | .error _ => (sz - a) + (sz - nx b sz a) + 1
section COE
variable {α : Type} {b : Nat → Nat} {sz a n p S x f : Nat} {r : Except Nat (α × Nat)} {v : α}
theorem coE_ok (h : r = .ok (v, p)) : coE b sz a r = (p - a) + (nx b sz p - nx b sz a) := by rw [h]; rfl
theorem coE_er (h : r = .error f) : coE b sz a r = (sz - a) + (sz - nx b sz a) + 1 := by rw [h]; rfl
theorem coE_ge {N : Nat} (h : ∀ v q, r = .ok (v, q) → N ≤ (q - a) + (nx b sz q - nx b sz a)) (h2 : N ≤ (sz - a) + (sz - nx b sz a) + 1) : N ≤ coE b sz a r := by
  cases r with
  | ok u => exact h u.1 u.2 rfl
  | error f => exact h2
theorem coE_le (h : ∀ v q, r = .ok (v, q) → q ≤ sz) : coE b sz a r ≤ (sz - a) + (sz - nx b sz a) + 1 := by
  cases r with
  | ok u =>
    have h1 := h u.1 u.2 rfl
    have h2 := nx_le (b := b) h1
    show (u.2 - a) + (nx b sz u.2 - nx b sz a) ≤ _
    omega
  | error f => exact Nat.le_refl _
theorem metF_co : ∀ f S p v q, p ≤ sz → metF b sz n f S p = .ok (v, q) → p ≤ q ∧ nx b sz p ≤ nx b sz q
  | 0, S, p, v, q, hp, h => by cases h; exact ⟨Nat.le_refl _, Nat.le_refl _⟩
  | f + 1, S, p, v, q, hp, h => by
    rw [metF] at h
    split at h
    · split at h
      · cases h
      · split at h
        · cases h
        · rename_i x y hy
          obtain ⟨-, -, rfl, -, -⟩ := numE_ok hy
          obtain ⟨h1, h2⟩ := metF_co f _ _ v q (nx_le hp) h
          have := nx_ge (b := b) (sz := sz) (a := p)
          have := fr_ge (b := b) (sz := sz) (a := p)
          exact ⟨by omega, Nat.le_trans (nx2_le hp) h2⟩
    · cases h; exact ⟨Nat.le_refl _, Nat.le_refl _⟩
theorem metG_0 : metG b sz n 0 (nx b sz a) = metE b sz n a := by
  unfold metG metE
  rw [if_neg (fun z => by rw [Nat.zero_testBit] at z; exact absurd z.2.2 (by decide))]
  cases numE b sz (nx b sz a) 0 ((n : Int) - 1) with
  | error f => rfl
  | ok u => dsimp only; rw [Nat.zero_or]
theorem metG_e1 (h : ¬ (kd b sz p = 2 ∧ fg b sz p < n)) : metG b sz n S p = .error (fr b sz p) := by
  unfold metG
  rw [if_neg (fun z => h ⟨z.1, z.2.1⟩)]
  by_cases hk : kd b sz p = 2
  · rw [numE_f2 (by omega)]
  · rw [numE_f1 hk]
theorem metG_e2 (h : kd b sz p = 2 ∧ fg b sz p < n) (ht : S.testBit (fg b sz p) = true) : metG b sz n S p = .error (fr b sz p) := if_pos ⟨h.1, h.2, ht⟩
theorem metG_ok (h : kd b sz p = 2 ∧ fg b sz p < n) (ht : S.testBit (fg b sz p) = false) : metG b sz n S p = metF b sz n (sz + 1 - nx b sz p) (S ||| 2 ^ (fg b sz p)) (nx b sz p) := by
  unfold metG
  rw [if_neg (fun z => by rw [ht] at z; exact absurd z.2.2 (by decide)), numE_t h.1 (by omega)]
theorem metG_s (hp : p ≤ sz) (hk : kd b sz p = 2) : metF b sz n (sz + 1 - p) S p = metG b sz n S p := by
  unfold metG
  rw [show sz + 1 - p = (sz - p) + 1 by omega, metF, if_pos hk]
  by_cases hc : fg b sz p < n ∧ S.testBit (fg b sz p) = true
  · rw [if_pos hc, if_pos ⟨hk, hc⟩]
  · rw [if_neg hc, if_neg (fun z => hc z.2)]
    cases hn : numE b sz p 0 ((n : Int) - 1) with
    | error f => rfl
    | ok u =>
      obtain ⟨x, q⟩ := u
      obtain ⟨-, -, hq, -, -⟩ := numE_ok hn
      have := nx_gt (b := b) (by rw [hk]; decide) hp
      have := nx_le (b := b) hp
      dsimp only
      exact metF_f _ _ _ _ (by omega) (by omega) (by omega)
theorem metG_co {v q : Nat} (hp : p ≤ sz) (h : metG b sz n S p = .ok (v, q)) : nx b sz p ≤ q ∧ nx b sz (nx b sz p) ≤ nx b sz q := by
  unfold metG at h
  split at h
  · cases h
  · split at h
    · cases h
    · rename_i x y hy
      obtain ⟨-, -, rfl, -, -⟩ := numE_ok hy
      exact metF_co _ _ _ v q (nx_le hp) h
end COE

theorem c13_met (l : Launch) (E : En) (o : Nat) (tq : Nat) (wd : Option Nat) (adn : Nat → Nat) (ivn : Nat → Int32) (hrn : Nat → Int32) (csn : Nat → Int32) (fT : Nat → Int32)  (b : Nat → Nat) (sz a : Nat)(K : Nat → Nat → Int32) (n : Nat)  (hlt : l.stackTraces = false) (htp : tpOk fT b sz) (hsz : sz ≤ 250) (ha : a ≤ sz) (hn : ivn 3 = nI n) (hn7 : n ≤ 7) (hka : kd b sz a = 1) : XtV l E yX13_met (ws_ yX13_met cX13_met 2 none) 9 (4 * coE b sz a (metE b sz n a)) (1024 * coE b sz a (metE b sz n a)) [.ref o] (rdO E o tq sz (adn 10) (atC b sz a) (fr b sz a) wd (nuC b sz a) ++ (tW E adn ivn hrn csn (sK K) ++ (tpW E tq fT ++ (([] : va_W))))) (fun (u : Nat × Nat × WD) => (metE b sz n a) = .ok (u.1, u.2.1) ∧ wOk b sz u.2.1 u.2.2) (fun (u : Nat × Nat × WD) => rdO E o tq sz (adn 10) (atC b sz u.2.1) (fr b sz u.2.1) (wdR E b sz u.2.1 u.2.2) (nuC b sz u.2.1) ++ (tW E adn ivn hrn csn (sK (meetK K u.1 n)) ++ (tpW E tq fT ++ (wdW E b sz u.2.1 u.2.2)))) (fun (En : String) (u : Nat) => En = "ThreeStrangers$Fault" ∧ (metE b sz n a) = .error u) (fun (u : Nat) (q : Nat) => tpW E tq fT ++ ([(q, .inr (13, [.null, .null, .null, .null, .null, .int 0, .int (nI u)]))])) := by
  have hna := nx_le (b := b) ha
  have hna2 := nx_le (b := b) hna
  have hna3 := nx_le (b := b) hna2
  have hg1 := nx2_le (b := b) ha
  have hg2 := nx2_le (b := b) hna
  have hgt := nx_gt (b := b) (by rw [hka]; decide) ha
  have hco0 : 1 + (nx b sz (nx b sz a) - nx b sz a) ≤ coE b sz a (metE b sz n a) := by
    rw [← metG_0]
    refine coE_ge (fun v q e => ?_) (by omega)
    obtain ⟨g1, g2⟩ := metG_co hna e
    omega
  refine XtV.of (by decide +kernel) (Nat.le_of_ble_eq_true rfl) ?_
  intro pR eR sR mR aR bR tR cR AR ls QR hxR hbR hmlR hts hown hlk hnm hA hK hI hl hret hthr
  have hl : lv_has ls 2 [(0, .ref o)] := hl
  refine lv_aload_n hxR hbR dX13_met_0 rfl (lv_at hl 0 rfl) ?_
  have hat : atC b sz a = nx b sz a := atC_k hka (by decide)
  have hI := wI_w (ws' := rdO E o tq sz (adn 10) (nx b sz a) (fr b sz a) wd (nuC b sz a) ++ (tW E adn ivn hrn csn (sK K) ++ (tpW E tq fT ++ (([] : va_W))))) (by rw [hat]) hI
  have hI : wI E AR sR _ _ (rdO E o tq sz (adn 10) (nx b sz a) (fr b sz a) wd (nuC b sz a) ++ (tpW E tq fT ++ (([] : va_W) ++ (tW E adn ivn hrn csn (sK K))))) := wI_pick ([rdO E o tq sz (adn 10) (nx b sz a) (fr b sz a) wd (nuC b sz a), tW E adn ivn hrn csn (sK K), tpW E tq fT, ([] : va_W)]) [0, 2, 3, 1] 4 rfl (by decide) hI
  have hI := wI_w app3 hI
  refine kVV (n := 0) (As := []) (rest := []) (fun w => w ++ (tW E adn ivn hrn csn (sK K))) hxR hbR hmlR hts hown hK hA hl.1 (isCtx.suf _) hI (c13_next l E o tq (adn 10) (fr b sz a) wd (nuC b sz a) fT b sz (nx b sz a) (by first | omega | with_reducible assumption) (by first | omega | with_reducible assumption) (by first | omega | with_reducible assumption)) (lw_V q831 q833 qs8 q107 q834) ⟨rfl, by decide +kernel⟩ 0 12 rfl rfl (he_l rfl) rfl (Nat.le_of_ble_eq_true rfl) (Nat.le_of_ble_eq_true rfl) ⟨by omega, by omega⟩ (Nat.le_of_ble_eq_true rfl) dX13_met_1 (fun u H locs hp hI hz => ?_)
  obtain ⟨w_1, rfl⟩ : ∃ z, z = u := ⟨_, rfl⟩
  have hI := wI_w app3.symm hI
  have hI : wI E AR sR H locs (rdO E o tq sz (adn 10) (atC b sz (nx b sz a)) (fr b sz (nx b sz a)) (wdR E b sz (nx b sz a) w_1) (nuC b sz (nx b sz a)) ++ (tpW E tq fT ++ (wdW E b sz (nx b sz a) w_1 ++ (tW E adn ivn hrn csn (sK K))))) := hI
  have hI : wI E AR sR _ _ (rdO E o tq sz (adn 10) (atC b sz (nx b sz a)) (fr b sz (nx b sz a)) (wdR E b sz (nx b sz a) w_1) (nuC b sz (nx b sz a)) ++ (tW E adn ivn hrn csn (sK K) ++ (tpW E tq fT ++ (wdW E b sz (nx b sz a) w_1)))) := wI_pick ([rdO E o tq sz (adn 10) (atC b sz (nx b sz a)) (fr b sz (nx b sz a)) (wdR E b sz (nx b sz a) w_1) (nuC b sz (nx b sz a)), tpW E tq fT, wdW E b sz (nx b sz a) w_1, tW E adn ivn hrn csn (sK K)]) [0, 3, 1, 2] 4 rfl (by decide) hI
  have hp : wOk b sz (nx b sz a) w_1 := hp
  have hw_1 := hp
  refine lv_iconst (v := 0) hxR hbR dX13_met_4 (by decide) ?_
  refine lv_istore_n (lv' := [(1, .int 0), (0, .ref o)]) hxR hbR dX13_met_5 rfl hl (by decide) rfl (fun ls hl => ?_)
  have lp_6 : ∀ (fu : Nat) (S : Nat) (p : Nat) (w1 : WD) (cl : Nat) (sl : Nat), (nx b sz a ≤ p ∧ p ≤ sz) → (S < 128) → (metG b sz n S p = (metE b sz n a)) → (wOk b sz p w1) → (cl ≤ 4 * ((p - a) + (nx b sz p - nx b sz a))) → (sl ≤ 1024 * ((p - a) + (nx b sz p - nx b sz a))) → sz - p < fu → ∀ (H : Heap) (locs : List Loc), wI E AR sR H locs (rdO E o tq sz (adn 10) (atC b sz p) (fr b sz p) (wdR E b sz p w1) (nuC b sz p) ++ (tW E adn ivn hrn csn (sK K) ++ (tpW E tq fT ++ (wdW E b sz p w1)))) → ∀ ls : Array Slot, lv_has ls 2 [(0, .ref o), (1, .int (nI S))] → W pR l eR (rmF 9 (4 * coE b sz a (metE b sz n a)) (1024 * coE b sz a (metE b sz n a))) sR mR aR bR tR cR H locs cl sl QR (F0 mR 6 ls []) := by
    intro fu
    induction fu with
    | zero =>
      intro S p w1 cl sl hps hS hR hwp hcl hsl hfu
      exact absurd hfu (Nat.not_lt_zero _)
    | succ fu ih_6 =>
      intro S p w1 cl sl hps hS hR hwp hcl hsl hfu H locs hI ls hl
      have hnp := nx_le (b := b) hps.2
      have hnp2 := nx_le (b := b) hnp
      have hgp := nx2_le (b := b) hps.2
      have hgp2 := nx2_le (b := b) hnp
      have hpn : p ≤ nx b sz p := Nat.le_trans fr_ge nx_ge
      have hco1 : (p - a) + (nx b sz p - nx b sz a) ≤ coE b sz a (metE b sz n a) := by
        rw [← hR]
        refine coE_ge (fun v q e => ?_) (by omega)
        obtain ⟨g1, g2⟩ := metG_co hps.2 e
        omega
      refine lv_aload_n hxR hbR dX13_met_6 rfl (lv_at hl 0 rfl) ?_
      refine r_get hxR hbR hts hown hK hI okX13 (ci := 12) rfl 0 (he_l rfl) 2 (by decide) q806 rfl (v := .ref (adn 10)) rfl dX13_met_7 ?_
      refine lv_aload_n hxR hbR dX13_met_10 rfl (lv_at hl 0 rfl) ?_
      refine r_get hxR hbR hts hown hK hI okX13 (ci := 12) rfl 0 (he_l rfl) 6 (by decide) q811 rfl (v := .int (nuC b sz p)) rfl dX13_met_11 ?_
      refine kVI (n := 1) (As := [.int (nuC b sz p)]) (rest := []) (fun w => (rdO E o tq sz (adn 10) (atC b sz p) (fr b sz p) (wdR E b sz p w1) (nuC b sz p)) ++ (w ++ (tpW E tq fT ++ (wdW E b sz p w1)))) hxR hbR hmlR hts hown hK hA hl.1 (isCtx.mk _ _) hI (c1_isOne l E adn ivn hrn csn K n (nuC b sz p) hn (by omega)) (lw_V q1147 q756 q757 q82 q758) ⟨rfl, by decide +kernel⟩ 0 1 rfl rfl tW_o rfl (Nat.le_of_ble_eq_true rfl) (Nat.le_of_ble_eq_true rfl) ⟨by omega, by omega⟩ (Nat.le_of_ble_eq_true rfl) dX13_met_14 (fun r_14 u H locs hp hI hz => ?_)
      have hI : wI E AR sR H locs (rdO E o tq sz (adn 10) (atC b sz p) (fr b sz p) (wdR E b sz p w1) (nuC b sz p) ++ (tW E adn ivn hrn csn (sK K) ++ (tpW E tq fT ++ (wdW E b sz p w1)))) := hI
      have hp : r_14 = b2i (decide (0 ≤ (nuC b sz p).toInt ∧ (nuC b sz p).toInt < (n : Int))) := hp
      have hr_14 := hp
      rcases b2i_cases hr_14 with ⟨c_14, rfl⟩ | ⟨c_14, rfl⟩
      · skip
        have c_14 : 0 ≤ Int32.toInt (nuC b sz p) ∧ Int32.toInt (nuC b sz p) < (n : Int) := of_decide_eq_true c_14
        have hk9 : kd b sz p = 2 ∧ nuC b sz p = nI (fg b sz p) ∧ fg b sz p < n := by
          rcases nuC_c (b := b) (sz := sz) (a := p) with ⟨h1, h2, h3⟩ | ⟨h1, h2, h3⟩ | ⟨h1, h2⟩
          · refine ⟨h1, h2, ?_⟩; have h4 := c_14.2; rw [h2, nI_toInt (by omega)] at h4; omega
          · exfalso; have h4 := c_14.2; rw [h2] at h4; have h5 : (100 : Int32).toInt = 100 := rfl; omega
          · exfalso; have h4 := c_14.1; rw [h2] at h4; have h5 : (-1 : Int32).toInt = -1 := rfl; omega
        refine lv_if_eq (tgt := 31) hxR hbR dX13_met_17 (by decide) (fun c => absurd c (by decide)) (fun _ => ?_)
        refine lv_iload_n hxR hbR dX13_met_20 rfl (lv_at hl 1 rfl) ?_
        refine lv_aload_n hxR hbR dX13_met_21 rfl (lv_at hl 0 rfl) ?_
        refine r_get hxR hbR hts hown hK hI okX13 (ci := 12) rfl 0 (he_l rfl) 6 (by decide) q811 rfl (v := .int (nuC b sz p)) rfl dX13_met_22 ?_
        refine lv_as (y := nI (fg b sz p)) hk9.2.1 ?_
        refine kSNI (n := 2) (As := [.int (nI S), .int (nI (fg b sz p))]) (rest := []) (fun w => w ++ (rdO E o tq sz (adn 10) (atC b sz p) (fr b sz p) (wdR E b sz p w1) (nuC b sz p) ++ (tW E adn ivn hrn csn (sK K) ++ (tpW E tq fT ++ (wdW E b sz p w1))))) hxR hbR hmlR hts hown hK hA hl.1 (isCtx.suf _) hI (c0_has l E  S (fg b sz p) (by first | omega | with_reducible assumption) (by first | omega | with_reducible assumption)) (host := RX0) q661 q81 (by decide) q660 (by decide +kernel) rfl (Nat.le_of_ble_eq_true rfl) (Nat.le_of_ble_eq_true rfl) ⟨by omega, by omega⟩ (Nat.le_of_ble_eq_true rfl) dX13_met_25 (fun r_25 u H locs hp hI hz => ?_)
        have hI : wI E AR sR H locs (rdO E o tq sz (adn 10) (atC b sz p) (fr b sz p) (wdR E b sz p w1) (nuC b sz p) ++ (tW E adn ivn hrn csn (sK K) ++ (tpW E tq fT ++ (wdW E b sz p w1)))) := hI
        have hp : r_25 = b2i (S.testBit (fg b sz p)) := hp
        have hr_25 := hp
        rcases b2i_cases hr_25 with ⟨c_25, rfl⟩ | ⟨c_25, rfl⟩
        · skip
          have c_25 : S.testBit (fg b sz p) = true := c_25
          have hres : (metE b sz n a) = .error (fr b sz p) := hR.symm.trans (metG_e2 ⟨hk9.1, hk9.2.2⟩ c_25)
          have hco9 := coE_er (b := b) (sz := sz) (a := a) hres
          refine lv_if_eq (tgt := 36) hxR hbR dX13_met_28 (by decide) (fun c => absurd c (by decide)) (fun _ => ?_)
          refine lv_aload_n hxR hbR dX13_met_31 rfl (lv_at hl 0 rfl) ?_
          have hI : wI E AR sR _ _ (tW E adn ivn hrn csn (sK K) ++ (tpW E tq fT ++ (wdW E b sz p w1 ++ (rdO E o tq sz (adn 10) (atC b sz p) (fr b sz p) (wdR E b sz p w1) (nuC b sz p))))) := wI_pick ([rdO E o tq sz (adn 10) (atC b sz p) (fr b sz p) (wdR E b sz p w1) (nuC b sz p), tW E adn ivn hrn csn (sK K), tpW E tq fT, wdW E b sz p w1]) [1, 2, 3, 0] 4 rfl (by decide) hI
          have hI := wI_w app3 hI
          refine kVR (n := 0) (As := []) (rest := []) (fun w => (tW E adn ivn hrn csn (sK K) ++ (tpW E tq fT ++ (wdW E b sz p w1))) ++ w) hxR hbR hmlR hts hown hK hA hl.1 (isCtx.pre _) hI (c13_wrong l E o tq (adn 10) (atC b sz p) (fr b sz p) (wdR E b sz p w1) (nuC b sz p) sz ) (lw_V q1030 q1032 qs11 q107 q1033) ⟨rfl, by decide +kernel⟩ 0 12 rfl rfl rfl rfl (Nat.le_of_ble_eq_true rfl) (Nat.le_of_ble_eq_true rfl) ⟨by omega, by omega⟩ (Nat.le_of_ble_eq_true rfl) dX13_met_32 (fun u r_32 H locs hp hI hz => ?_)
          have hI := wI_w app3.symm hI
          have hI : wI E AR sR H locs (tW E adn ivn hrn csn (sK K) ++ (tpW E tq fT ++ (wdW E b sz p w1 ++ (rdO E o tq sz (adn 10) (atC b sz p) (fr b sz p) (wdR E b sz p w1) (nuC b sz p) ++ ([(r_32, .inr (13, [.null, .null, .null, .null, .null, .int 0, .int (nI (fr b sz p))]))]))))) := hI
          have hI : wI E AR sR _ _ (tW E adn ivn hrn csn (sK K) ++ (wdW E b sz p w1 ++ (rdO E o tq sz (adn 10) (atC b sz p) (fr b sz p) (wdR E b sz p w1) (nuC b sz p) ++ (tpW E tq fT ++ ([(r_32, .inr (13, [.null, .null, .null, .null, .null, .int 0, .int (nI (fr b sz p))]))]))))) := wI_pick ([tW E adn ivn hrn csn (sK K), tpW E tq fT, wdW E b sz p w1, rdO E o tq sz (adn 10) (atC b sz p) (fr b sz p) (wdR E b sz p w1) (nuC b sz p), [(r_32, .inr (13, [.null, .null, .null, .null, .null, .int 0, .int (nI (fr b sz p))]))]]) [0, 2, 3, 1, 4] 5 rfl (by decide) hI
          have hI := wI_dropL hI
          have hI := wI_dropL hI
          have hI := wI_dropL hI
          have hI : wI E AR sR _ _ (tpW E tq fT ++ ([(r_32, .inr (13, [.null, .null, .null, .null, .null, .int 0, .int (nI (fr b sz p))]))])) := hI
          refine vx_athrow hxR hbR dX13_met_35 ?_
          obtain ⟨ce_35, hq1, hq2, hq3⟩ := wI_thrown hK hI (ci := 13) (nm := "ThreeStrangers$Fault") rfl rfl (q0 := (1 + 0)) (he_r (Nat.le_of_ble_eq_true rfl) (Nat.le_of_ble_eq_true rfl) rfl)
          exact hthr (fr b sz p) _ _ _ _ _ _ _ _ _ _ hq1 hq2 hq3 hI ⟨rfl, hres⟩ (by omega) (by omega)
        · skip
          have c_25 : S.testBit (fg b sz p) = false := c_25
          refine lv_if_eq (tgt := 36) hxR hbR dX13_met_28 (by decide) (fun _ => ?_) (fun c => absurd c (by decide))
          refine lv_iload_n hxR hbR dX13_met_36 rfl (lv_at hl 1 rfl) ?_
          refine lv_iconst (v := 1) hxR hbR dX13_met_37 (by decide) ?_
          refine lv_aload_n hxR hbR dX13_met_38 rfl (lv_at hl 0 rfl) ?_
          refine r_get hxR hbR hts hown hK hI okX13 (ci := 12) rfl 0 (he_l rfl) 6 (by decide) q811 rfl (v := .int (nuC b sz p)) rfl dX13_met_39 ?_
          refine lv_as (y := nI (fg b sz p)) hk9.2.1 ?_
          refine lv_ishl hxR hbR dX13_met_42 ?_
          refine lv_as (y := nI (2 ^ (fg b sz p))) (nb_shl (fg b sz p) (by omega)) ?_
          refine lv_ior hxR hbR dX13_met_43 ?_
          refine lv_as (y := nI (S ||| (2 ^ (fg b sz p)))) (nb_or S (2 ^ (fg b sz p))) ?_
          refine lv_istore_n (lv' := [(1, .int (nI (S ||| (2 ^ (fg b sz p))))), (0, .ref o)]) hxR hbR dX13_met_44 rfl hl (by decide) rfl (fun ls hl => ?_)
          refine lv_aload_n hxR hbR dX13_met_45 rfl (lv_at hl 1 rfl) ?_
          have hat : atC b sz p = nx b sz p := atC_k hk9.1 (by decide)
          have hgtp := nx_gt (b := b) (by rw [hk9.1]; decide) hps.2
          have hS9 : S ||| 2 ^ (fg b sz p) < 128 := Nat.or_lt_two_pow (n := 7) hS (Nat.pow_lt_pow_right (by decide) (by omega))
          have hco : (nx b sz p - a) + (nx b sz (nx b sz p) - nx b sz a) ≤ coE b sz a (metE b sz n a) := by
            rw [← hR, metG_ok ⟨hk9.1, hk9.2.2⟩ c_25]
            refine coE_ge (fun v q e => ?_) (by omega)
            obtain ⟨g1, g2⟩ := metF_co _ _ _ v q hnp e
            omega
          have hI : wI E AR sR _ _ (wdW E b sz p w1 ++ (rdO E o tq sz (adn 10) (atC b sz p) (fr b sz p) (wdR E b sz p w1) (nuC b sz p) ++ (tW E adn ivn hrn csn (sK K) ++ (tpW E tq fT)))) := wI_pick ([rdO E o tq sz (adn 10) (atC b sz p) (fr b sz p) (wdR E b sz p w1) (nuC b sz p), tW E adn ivn hrn csn (sK K), tpW E tq fT, wdW E b sz p w1]) [3, 0, 1, 2] 4 rfl (by decide) hI
          have hI := wI_dropL hI
          have hI : wI E AR sR _ _ (rdO E o tq sz (adn 10) (atC b sz p) (fr b sz p) (wdR E b sz p w1) (nuC b sz p) ++ (tW E adn ivn hrn csn (sK K) ++ (tpW E tq fT))) := hI
          have hI := wI_w (ws' := rdO E o tq sz (adn 10) (nx b sz p) (fr b sz p) (wdR E b sz p w1) (nuC b sz p) ++ (tW E adn ivn hrn csn (sK K) ++ (tpW E tq fT ++ (([] : va_W))))) (by rw [hat, List.append_nil]) hI
          have hI : wI E AR sR _ _ (rdO E o tq sz (adn 10) (nx b sz p) (fr b sz p) (wdR E b sz p w1) (nuC b sz p) ++ (tpW E tq fT ++ (([] : va_W) ++ (tW E adn ivn hrn csn (sK K))))) := wI_pick ([rdO E o tq sz (adn 10) (nx b sz p) (fr b sz p) (wdR E b sz p w1) (nuC b sz p), tW E adn ivn hrn csn (sK K), tpW E tq fT, ([] : va_W)]) [0, 2, 3, 1] 4 rfl (by decide) hI
          have hI := wI_w app3 hI
          refine kVV (n := 0) (As := []) (rest := []) (fun w => w ++ (tW E adn ivn hrn csn (sK K))) hxR hbR hmlR hts hown hK hA hl.1 (isCtx.suf _) hI (c13_next l E o tq (adn 10) (fr b sz p) (wdR E b sz p w1) (nuC b sz p) fT b sz (nx b sz p) (by first | omega | with_reducible assumption) (by first | omega | with_reducible assumption) (by first | omega | with_reducible assumption)) (lw_V q831 q833 qs8 q107 q834) ⟨rfl, by decide +kernel⟩ 0 12 rfl rfl (he_l rfl) rfl (Nat.le_of_ble_eq_true rfl) (Nat.le_of_ble_eq_true rfl) ⟨by omega, by omega⟩ (Nat.le_of_ble_eq_true rfl) dX13_met_46 (fun u H locs hp hI hz => ?_)
          obtain ⟨w_46, rfl⟩ : ∃ z, z = u := ⟨_, rfl⟩
          have hI := wI_w app3.symm hI
          have hI : wI E AR sR H locs (rdO E o tq sz (adn 10) (atC b sz (nx b sz p)) (fr b sz (nx b sz p)) (wdR E b sz (nx b sz p) w_46) (nuC b sz (nx b sz p)) ++ (tpW E tq fT ++ (wdW E b sz (nx b sz p) w_46 ++ (tW E adn ivn hrn csn (sK K))))) := hI
          have hI : wI E AR sR _ _ (rdO E o tq sz (adn 10) (atC b sz (nx b sz p)) (fr b sz (nx b sz p)) (wdR E b sz (nx b sz p) w_46) (nuC b sz (nx b sz p)) ++ (tW E adn ivn hrn csn (sK K) ++ (tpW E tq fT ++ (wdW E b sz (nx b sz p) w_46)))) := wI_pick ([rdO E o tq sz (adn 10) (atC b sz (nx b sz p)) (fr b sz (nx b sz p)) (wdR E b sz (nx b sz p) w_46) (nuC b sz (nx b sz p)), tpW E tq fT, wdW E b sz (nx b sz p) w_46, tW E adn ivn hrn csn (sK K)]) [0, 3, 1, 2] 4 rfl (by decide) hI
          have hp : wOk b sz (nx b sz p) w_46 := hp
          have hw_46 := hp
          refine lv_aload_n hxR hbR dX13_met_49 rfl (lv_at hl 1 rfl) ?_
          refine r_get hxR hbR hts hown hK hI okX13 (ci := 12) rfl 0 (he_l rfl) 6 (by decide) q811 rfl (v := .int (nuC b sz (nx b sz p))) rfl dX13_met_50 ?_
          refine lv_iconst (v := (-1)) hxR hbR dX13_met_53 (by decide) ?_
          refine lv_icmp_ne (tgt := 6) hxR hbR dX13_met_54 (by decide) (fun c_54 => ?_) (fun c_54 => ?_)
          · skip
            have i_54 : ¬ ((nuC b sz (nx b sz p)).toInt = (-1)) := by have zz := mt i_eq.mpr c_54; exact zz
            have hk54 : kd b sz (nx b sz p) = 2 := by
              rcases nuC_i (b := b) (sz := sz) (a := nx b sz p) with ⟨h1, h2, h3⟩ | ⟨h1, h2, h3⟩ | ⟨h1, h2⟩
              · exact h1
              · exact h1
              · exact absurd h2 i_54
            exact ih_6 (S ||| (2 ^ (fg b sz p))) (nx b sz p) w_46 (cl + (4 * (1 + (nx b sz (nx b sz p) - (nx b sz p))))) (sl + (1024 * (1 + (nx b sz (nx b sz p) - (nx b sz p))))) ⟨by omega, hnp⟩ hS9 ((metG_s hnp hk54).symm.trans ((metG_ok ⟨hk9.1, hk9.2.2⟩ c_25).symm.trans hR)) hw_46 (by omega) (by omega) (by omega) _ _ hI _ (lv_sub hl [1, 0] rfl)
          · skip
            have i_54 : (nuC b sz (nx b sz p)).toInt = (-1) := by have zz := i_eq.mp c_54; exact zz
            have hk54 : ¬ kd b sz (nx b sz p) = 2 := by
              rcases nuC_i (b := b) (sz := sz) (a := nx b sz p) with ⟨h1, h2, h3⟩ | ⟨h1, h2, h3⟩ | ⟨h1, h2⟩
              · omega
              · omega
              · exact h1
            refine lv_aload_n hxR hbR dX13_met_57 rfl (lv_at hl 1 rfl) ?_
            refine r_get hxR hbR hts hown hK hI okX13 (ci := 12) rfl 0 (he_l rfl) 2 (by decide) q806 rfl (v := .ref (adn 10)) rfl dX13_met_58 ?_
            refine lv_iload_n hxR hbR dX13_met_61 rfl (lv_at hl 0 rfl) ?_
            refine kVI (n := 1) (As := [.int (nI (S ||| (2 ^ (fg b sz p))))]) (rest := []) (fun w => (rdO E o tq sz (adn 10) (atC b sz (nx b sz p)) (fr b sz (nx b sz p)) (wdR E b sz (nx b sz p) w_46) (nuC b sz (nx b sz p))) ++ (w ++ (tpW E tq fT ++ (wdW E b sz (nx b sz p) w_46)))) hxR hbR hmlR hts hown hK hA hl.1 (isCtx.mk _ _) hI (c1_meets l E adn ivn hrn csn K n (S ||| (2 ^ (fg b sz p))) hn (by first | omega | with_reducible assumption) (by omega)) (lw_V q1149 q1150 q1151 q82 q1152) ⟨rfl, by decide +kernel⟩ 0 1 rfl rfl tW_o rfl (Nat.le_of_ble_eq_true rfl) (Nat.le_of_ble_eq_true rfl) ⟨by omega, by omega⟩ (Nat.le_of_ble_eq_true rfl) dX13_met_62 (fun r_62 u H locs hp hI hz => ?_)
            have hI : wI E AR sR H locs (rdO E o tq sz (adn 10) (atC b sz (nx b sz p)) (fr b sz (nx b sz p)) (wdR E b sz (nx b sz p) w_46) (nuC b sz (nx b sz p)) ++ (tW E adn ivn hrn csn (sK (meetK K (S ||| (2 ^ (fg b sz p))) n)) ++ (tpW E tq fT ++ (wdW E b sz (nx b sz p) w_46)))) := hI
            have hp : r_62 = nI (mC K (S ||| (2 ^ (fg b sz p))) n) := hp
            have hr_62 := hp
            subst hr_62
            refine lv_pop hxR hbR dX13_met_65 rfl ?_
            have hres : (metE b sz n a) = .ok (S ||| 2 ^ (fg b sz p), nx b sz p) := hR.symm.trans ((metG_ok ⟨hk9.1, hk9.2.2⟩ c_25).trans (metF_n hk54))
            exact hret (S ||| 2 ^ (fg b sz p), nx b sz p, w_46) _ _ _ _ _ _ dX13_met_66 hI (by show (metE b sz n a) = .ok ((S ||| 2 ^ (fg b sz p)), (nx b sz p)) ∧ wOk b sz (nx b sz p) w_46; exact ⟨hres, hw_46⟩) (by omega) (by omega)
      · skip
        have c_14 : ¬ (0 ≤ Int32.toInt (nuC b sz p) ∧ Int32.toInt (nuC b sz p) < (n : Int)) := of_decide_eq_false c_14
        have hres : (metE b sz n a) = .error (fr b sz p) := by
          refine hR.symm.trans (metG_e1 (fun z => c_14 ?_))
          rcases nuC_i (b := b) (sz := sz) (a := p) with ⟨h1, h2, h3⟩ | ⟨h1, h2, h3⟩ | ⟨h1, h2⟩
          · rw [h2]; omega
          · omega
          · exact absurd z.1 h1
        have hco9 := coE_er (b := b) (sz := sz) (a := a) hres
        refine lv_if_eq (tgt := 31) hxR hbR dX13_met_17 (by decide) (fun _ => ?_) (fun c => absurd c (by decide))
        refine lv_aload_n hxR hbR dX13_met_31 rfl (lv_at hl 0 rfl) ?_
        have hI : wI E AR sR _ _ (tW E adn ivn hrn csn (sK K) ++ (tpW E tq fT ++ (wdW E b sz p w1 ++ (rdO E o tq sz (adn 10) (atC b sz p) (fr b sz p) (wdR E b sz p w1) (nuC b sz p))))) := wI_pick ([rdO E o tq sz (adn 10) (atC b sz p) (fr b sz p) (wdR E b sz p w1) (nuC b sz p), tW E adn ivn hrn csn (sK K), tpW E tq fT, wdW E b sz p w1]) [1, 2, 3, 0] 4 rfl (by decide) hI
        have hI := wI_w app3 hI
        refine kVR (n := 0) (As := []) (rest := []) (fun w => (tW E adn ivn hrn csn (sK K) ++ (tpW E tq fT ++ (wdW E b sz p w1))) ++ w) hxR hbR hmlR hts hown hK hA hl.1 (isCtx.pre _) hI (c13_wrong l E o tq (adn 10) (atC b sz p) (fr b sz p) (wdR E b sz p w1) (nuC b sz p) sz ) (lw_V q1030 q1032 qs11 q107 q1033) ⟨rfl, by decide +kernel⟩ 0 12 rfl rfl rfl rfl (Nat.le_of_ble_eq_true rfl) (Nat.le_of_ble_eq_true rfl) ⟨by omega, by omega⟩ (Nat.le_of_ble_eq_true rfl) dX13_met_32 (fun u r_32 H locs hp hI hz => ?_)
        have hI := wI_w app3.symm hI
        have hI : wI E AR sR H locs (tW E adn ivn hrn csn (sK K) ++ (tpW E tq fT ++ (wdW E b sz p w1 ++ (rdO E o tq sz (adn 10) (atC b sz p) (fr b sz p) (wdR E b sz p w1) (nuC b sz p) ++ ([(r_32, .inr (13, [.null, .null, .null, .null, .null, .int 0, .int (nI (fr b sz p))]))]))))) := hI
        have hI : wI E AR sR _ _ (tW E adn ivn hrn csn (sK K) ++ (wdW E b sz p w1 ++ (rdO E o tq sz (adn 10) (atC b sz p) (fr b sz p) (wdR E b sz p w1) (nuC b sz p) ++ (tpW E tq fT ++ ([(r_32, .inr (13, [.null, .null, .null, .null, .null, .int 0, .int (nI (fr b sz p))]))]))))) := wI_pick ([tW E adn ivn hrn csn (sK K), tpW E tq fT, wdW E b sz p w1, rdO E o tq sz (adn 10) (atC b sz p) (fr b sz p) (wdR E b sz p w1) (nuC b sz p), [(r_32, .inr (13, [.null, .null, .null, .null, .null, .int 0, .int (nI (fr b sz p))]))]]) [0, 2, 3, 1, 4] 5 rfl (by decide) hI
        have hI := wI_dropL hI
        have hI := wI_dropL hI
        have hI := wI_dropL hI
        have hI : wI E AR sR _ _ (tpW E tq fT ++ ([(r_32, .inr (13, [.null, .null, .null, .null, .null, .int 0, .int (nI (fr b sz p))]))])) := hI
        refine vx_athrow hxR hbR dX13_met_35 ?_
        obtain ⟨ce_35, hq1, hq2, hq3⟩ := wI_thrown hK hI (ci := 13) (nm := "ThreeStrangers$Fault") rfl rfl (q0 := (1 + 0)) (he_r (Nat.le_of_ble_eq_true rfl) (Nat.le_of_ble_eq_true rfl) rfl)
        exact hthr (fr b sz p) _ _ _ _ _ _ _ _ _ _ hq1 hq2 hq3 hI ⟨rfl, hres⟩ (by omega) (by omega)
  exact lp_6 _ 0 (nx b sz a) w_1 (0 + (4 * (1 + (nx b sz (nx b sz a) - (nx b sz a))))) (0 + (1024 * (1 + (nx b sz (nx b sz a) - (nx b sz a))))) ⟨Nat.le_refl _, hna⟩ (by decide) metG_0 hw_1 (by omega) (by omega) (Nat.lt_succ_self _) _ _ hI _ (lv_sub hl [1, 0] rfl)
