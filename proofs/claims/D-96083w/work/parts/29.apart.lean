/-! isApart; how long it goes on, as the reference counts it -/
def apartL (S : Nat) : List Nat → Bool
  | [] => true
  | t :: r => decide (bitsN (t &&& S) 8 ≤ 1) && apartL S r
theorem apartL_drop {S : Nat} {T : List Nat} {i : Nat} (hi : i < T.length) : apartL S (T.drop i) = (decide (bitsN (T.getD i 0 &&& S) 8 ≤ 1) && apartL S (T.drop (i + 1))) := by rw [dropD hi, apartL]
def soI : Option Nat → Int32
  | none => -1
  | some n => nI n
def seekL (L : List Nat) : List Nat → List Nat → Nat × Option Nat → Nat × Option Nat
  | [], T, a => if L.all (fun g => !apartL g T) = true then (max a.1 T.length, match a.2 with | none => some T.length | some s => some (min s T.length)) else a
  | g :: r, T, a => seekL L r T (if apartL g T = true then seekL L r (T ++ [g]) a else a)
theorem c5_isApart (l : Launch) (E : En) (ws : va_W) (a q0 : Nat) (f : Nat → Int32) (T : List Nat) (S : Nat) (h0 : ws[q0]? = some (a, .inl (E.2 0, 40, .inl f))) (hT : ∀ j, j < T.length → f j = nI (T.getD j 0)) (hl40 : T.length ≤ 40) (hT8 : ∀ j, j < T.length → T.getD j 0 < 256) :
    CtI l E yX5_isApart cX5_isApart 4 .boolean 1 0 0 [.ref a, .int (nI T.length), .int (nI S)] ws (fun (r : Int32) (u : Unit) => r = b2i (apartL S T)) (fun (u : Unit) => ws) := by
  refine CtI.of (by decide +kernel) (Nat.le_of_ble_eq_true rfl) ?_
  intro pR eR sR mR aR bR tR cR AR ls QR hxR hbR hmlR hts hown hlk hnm hA hK hI hl hret
  have hl : lv_has ls 4 [(0, .ref a), (1, .int (nI T.length)), (2, .int (nI S))] := hl
  refine lv_iconst (v := 0) hxR hbR dX5_isApart_0 (by decide) ?_
  refine lv_istore_n (lv' := [(3, .int 0), (0, .ref a), (1, .int (nI T.length)), (2, .int (nI S))]) hxR hbR dX5_isApart_1 rfl hl (by decide) rfl (fun ls hl => ?_)
  have lp_2 : ∀ (fu i : Nat), i ≤ T.length → apartL S (T.drop i) = apartL S T → T.length - i < fu → ∀ (H : Heap) (locs : List Loc), wI E AR sR H locs ws → ∀ ls : Array Slot, lv_has ls 4 [(0, .ref a), (1, .int (nI T.length)), (2, .int (nI S)), (3, .int (nI i))] → W pR l eR (rmF 1 0 0) sR mR aR bR tR cR H locs 0 0 QR (F0 mR 2 ls []) := by
    intro fu
    induction fu with
    | zero => intro i h1 h2 hfu; exact absurd hfu (Nat.not_lt_zero _)
    | succ fu ih =>
      intro i hi hg hfu H locs hI ls hl
      refine lv_iload_n hxR hbR dX5_isApart_2 rfl (lv_at hl 3 rfl) ?_
      refine lv_iload_n hxR hbR dX5_isApart_3 rfl (lv_at hl 1 rfl) ?_
      refine lv_icmp_ge (tgt := 27) hxR hbR dX5_isApart_4 (by decide) (fun c_4 => ?_) (fun c_4 => ?_)
      · have c_4 : T.length ≤ i := (n_le (a := T.length) (b := i) (by omega) (by omega)).mp c_4
        refine lv_iconst (v := 1) hxR hbR dX5_isApart_27 (by decide) ?_
        exact hret () 1 _ _ _ _ _ _ dX5_isApart_28 hI (by show 1 = b2i (apartL S T); rw [← hg, List.drop_eq_nil_of_le c_4]; rfl) (Nat.le_of_ble_eq_true rfl) (Nat.le_of_ble_eq_true rfl) rfl
      · have c_4 : i < T.length := Nat.lt_of_not_le (fun zz => c_4 ((n_le (a := T.length) (b := i) (by omega) (by omega)).mpr zz))
        refine lv_aload_n hxR hbR dX5_isApart_7 rfl (lv_at hl 0 rfl) ?_
        refine lv_iload_n hxR hbR dX5_isApart_8 rfl (lv_at hl 3 rfl) ?_
        refine r_iald hxR hbR hK hI q0 (n := 40) (J := i) (f := f) (v := nI (T.getD i 0)) h0 (by omega) (by decide) (hT i c_4) dX5_isApart_9 ?_
        refine lv_iload_n hxR hbR dX5_isApart_10 rfl (lv_at hl 2 rfl) ?_
        refine lv_iand hxR hbR dX5_isApart_11 ?_
        refine lv_as (y := nI (T.getD i 0 &&& S)) (nb_and _ _) ?_
        have h8 := hT8 i c_4
        have hle : T.getD i 0 &&& S ≤ T.getD i 0 := Nat.and_le_left
        refine kSI (wc := []) (n := 1) (As := [.int (nI (T.getD i 0 &&& S))]) (rest := []) (fun w => w ++ ws) hxR hbR hmlR hts hown hK hA hl.1 (isCtx.suf _) hI (c5_bits l E (T.getD i 0 &&& S) (by omega)) (lw_S q1683 q1684 q86 q1685) (by decide +kernel) rfl (Nat.le_of_ble_eq_true rfl) (Nat.le_of_ble_eq_true rfl) ⟨Nat.le_of_ble_eq_true rfl, Nat.le_of_ble_eq_true rfl⟩ (Nat.le_of_ble_eq_true rfl) dX5_isApart_12 (fun r_12 u H locs hp hI hz => ?_)
        have hI : wI E AR sR H locs ws := hI
        have hp : r_12 = nI (bitsN (T.getD i 0 &&& S) 8) := hp
        subst hp
        have hbl := bitsN_le (T.getD i 0 &&& S) 8
        refine lv_iconst (v := 1) hxR hbR dX5_isApart_15 (by decide) ?_
        refine lv_icmp_le (tgt := 21) hxR hbR dX5_isApart_16 (by decide) (fun c_16 => ?_) (fun c_16 => ?_)
        · have c_16 : bitsN (T.getD i 0 &&& S) 8 ≤ 1 := (n_le (a := bitsN (T.getD i 0 &&& S) 8) (b := 1) (by omega) (by omega)).mp c_16
          refine lv_iinc (v := nI (i + 1)) (lv' := [(3, .int (nI (i + 1))), (0, .ref a), (1, .int (nI T.length)), (2, .int (nI S))]) hxR hbR dX5_isApart_21 hl (k := 3) rfl (show nI i + 1 = nI (i + 1) from nI_add _ 1) (by decide) rfl (fun ls hl => ?_)
          refine lv_goto (tgt := 2) hxR hbR dX5_isApart_24 (by decide) ?_
          exact ih (i + 1) (by omega) (by rw [← hg, apartL_drop c_4, decide_eq_true c_16, Bool.true_and]) (by omega) _ _ hI _ (lv_sub hl [1, 2, 3, 0] rfl)
        · have c_16 : 1 < bitsN (T.getD i 0 &&& S) 8 := Nat.lt_of_not_le (fun zz => c_16 ((n_le (a := bitsN (T.getD i 0 &&& S) 8) (b := 1) (by omega) (by omega)).mpr zz))
          refine lv_iconst (v := 0) hxR hbR dX5_isApart_19 (by decide) ?_
          exact hret () 0 _ _ _ _ _ _ dX5_isApart_20 hI (by show 0 = b2i (apartL S T); rw [← hg, apartL_drop c_4, decide_eq_false (by omega), Bool.false_and]; rfl) (Nat.le_of_ble_eq_true rfl) (Nat.le_of_ble_eq_true rfl) rfl
  exact lp_2 _ 0 (Nat.zero_le _) rfl (Nat.lt_succ_self _) _ _ hI _ (lv_sub hl [1, 2, 3, 0] rfl)
